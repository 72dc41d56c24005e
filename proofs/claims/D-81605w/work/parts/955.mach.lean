/-! WHAT THE MACHINE THROWS BY ITSELF: arraycopy out of range (follows the kit's vx_vmAt, vx_vm; the library's nativeVmThrowsMessage) -/
set_option maxRecDepth 100000
section VXN
set_option maxHeartbeats 1000000 in
theorem vx_natAt {p : Program} {l : Launch} {e : Env} {R : Room} {s : State} {m₀ : MethodId} {args : Array Value} {below : List Frame} {meth : Method} {c : Code} {W : State} {locs : List Loc} {cells slots : Nat}
    (X : Stand p l e R s m₀ args below meth c W locs cells slots) (hexec : p.tables.exec = Jvm.exec) (htr : e.platform.stackTraces = false) {cls : String} {names : List String} {text : String}
    (hcls : Bundle.fit cls = true) (hnames : ∀ n ∈ names, Bundle.fit n = true) (hsoe : (cls == "java/lang/StackOverflowError") = false) (hoom : (cls == "java/lang/OutOfMemoryError") = false)
    (h : ∀ a ∈ Bundle.messageArmAtoms cls names, a.before args s = true)
    (hlocs : ∀ x ∈ locs, ∀ cell, s.heap[x.base]? = some cell → cell.vm.isStatics = false)
    (htext : (text == notModelled) = false) (hlimit : ¬ (stringBytes (stringToUtf16 text)).size > e.platform.arrayLengthLimit) (hheap : ¬ (stringBytes (stringToUtf16 text)).size * componentBytes .byte > e.platform.maxHeapBytes)
    {g : JFrame} (hg : g.method = m₀) (hsize : g.locals.size = c.maxLocals) {nf : NFrame} (hnf : nf.words = 0)
    (hRframes : names.length + 5 < R.frames) (hRlocals : 2 * g.monitorRoom + (g.stack.map fun v => v.category).sum + 10240 ≤ R.locals) (hshort : 13 * names.length + 55 ≤ 10240)
    (hRcells : cells + 3 ≤ R.cells) (hRslots : slots + ((stringBytes (stringToUtf16 text)).size + 4 + 6) ≤ R.slots) :
    ∃ (S : State) (q : Addr) (ce : Cell), Stand p l e R s m₀ args below meth c S locs (cells + 3) (slots + ((stringBytes (stringToUtf16 text)).size + 4 + 6)) ∧ S.heap[q]? = some ce ∧ s.vm.findClass cls = some ce.cls ∧ ce.vm = .none ∧
      Steps p.tables e below (W.setFrames (.throwNew cls (some text) none :: .native nf :: .java g :: below)) (S.setFrames (.throwing q :: .native nf :: .java g :: below)) := by
  have howns : e.platform.frameOwnsMonitors = true := by rw [X.admits.platform]
  have hfin : e.platform.finalization = false := by rw [X.admits.platform]
  have hpl : e.platform.magicAccessors = ({} : Platform).magicAccessors := by rw [X.admits.platform]
  have a : ∀ x, x ∈ Bundle.messageArmAtoms cls names → x.holds args s none s [] = true := fun x hx => h x hx
  obtain ⟨T, Z0, L, -, Y⟩ := ThrowableC.of_atoms (args := args) howns hfin hpl (fun x hx => h x (by simp [Bundle.messageArmAtoms, hx]))
  obtain ⟨Z, M, LZ, LM, hnZ⟩ := Init0T.ofS_atoms (args := args) hpl L Y (fun x hx => h x (by simp [Bundle.messageArmAtoms, hx]))
  obtain ⟨P1, Ps, hlen, L1, hL, hP1m, hlink1, hlink⟩ := Bundle.chainS (args := args) hpl hnZ names cls hcls hnames (fun x hx => h x (by simp [Bundle.messageArmAtoms, hx]))
  obtain ⟨Zs, LZs, hn4, hfitv, hfitc⟩ := StringT.of_atoms (args := args) (fun x hx => h x (by simp [Bundle.messageArmAtoms, hx]))
  have hfound : s.vm.findClass cls = some P1.m.cls := findClass_of_methodNamed hP1m
  obtain ⟨c1, kX, hc1, hk, hord, -, -, hn6⟩ := Cond.instantiable_spec (a (.instantiable cls 6) (by simp [Bundle.messageArmAtoms]))
  cases Option.some.inj (hc1.symm.trans hfound)
  have hinit := Cond.initialized_spec hfound hk (a (.initialized cls) (by simp [Bundle.messageArmAtoms]))
  have hctor : kX.findMethod "<init>" "(Ljava/lang/String;)V" = some P1.m.idx := findMethod_of_methodNamed hP1m hk
  have hsel0 : selectMethod e.platform s.vm P1.m.cls T.fill0 = .method T.fill0 := by
    obtain ⟨c2, r2, m2, q1, q2, q3, q4, -⟩ := Cond.selects_spec (a (.selects cls Bundle.tFill0 Bundle.tFill0) (by simp [Bundle.messageArmAtoms]))
    cases Option.some.inj (q1.symm.trans hfound)
    cases Option.some.inj (q2.symm.trans (State.methodFound?_of_named Y.fill0 (by decide)))
    cases Option.some.inj (q3.symm.trans Y.fill0)
    rw [Launch.admits_selectMethod X.admits]; exact q4
  have hselF : selectMethod e.platform s.vm P1.m.cls T.fill = .method T.fill := by
    obtain ⟨c2, r2, m2, q1, q2, q3, q4, -⟩ := Cond.selects_spec (a (.selects cls Bundle.tFill Bundle.tFill) (by simp [Bundle.messageArmAtoms]))
    cases Option.some.inj (q1.symm.trans hfound)
    cases Option.some.inj (q2.symm.trans (State.methodFound?_of_named Y.fill (by decide)))
    cases Option.some.inj (q3.symm.trans Y.fill)
    rw [Launch.admits_selectMethod X.admits]; exact q4
  obtain ⟨cellS0, hcS0, hiss⟩ := Y.statics
  obtain ⟨u0, hu0⟩ := Cond.staticRefV Y.unassigned L.unassignedStatic L.statics hcS0 hiss (a (.isRef (.static Bundle.tN "UNASSIGNED_STACK" Bundle.steD)) (by simp [Bundle.messageArmAtoms]))
  obtain ⟨sen, hsen⟩ := Cond.staticRefV Y.sentinel L.sentinelStatic L.statics hcS0 hiss (a (.isRef (.static Bundle.tN "SUPPRESSED_SENTINEL" Bundle.listD)) (by simp [Bundle.messageArmAtoms]))
  obtain ⟨ci198, i198, fB, hk198, hg198, ha198, hsB, -, hnB, htB, hffB⟩ := Cond.ownField (t := .object "java/lang/Object") Y.found L.cls (by decide +kernel) (a (.fieldLink Bundle.tN 198 Bundle.tN "backtrace" "Ljava/lang/Object;") (by simp [Bundle.messageArmAtoms])) (a (.lays Bundle.tN Bundle.tN "backtrace" "Ljava/lang/Object;") (by simp [Bundle.messageArmAtoms])) e.platform hpl
  obtain ⟨cellS, hcS', heS, -, hkeep⟩ := X.same.2.2.2.2.2 T.aS cellS0 hcS0
  have hcellS : W.heap[T.aS]? = some cellS := hcS'
  have hout' : ∀ i, (⟨T.aS, i⟩ : Loc) ∉ locs := fun i hmem => by
    have := hlocs _ hmem cellS0 hcS0
    rw [hiss] at this; cases this
  have hknownS : cellS.vm ≠ .unknown := by
    rw [heS]; intro hu
    rw [show cellS0.vm = .unknown from hu] at hiss
    cases hiss
  have hvU : cellS.slots[T.fUnassigned.slot]? = some u0.v := by rw [hkeep _ (hout' _)]; exact hu0
  have hvSen : cellS.slots[T.fSentinel.slot]? = some sen.v := by rw [hkeep _ (hout' _)]; exact hsen
  obtain ⟨iM, hffM⟩ := Y.msg
  obtain ⟨tyC, dC, hdC, hdnC⟩ := Cond.laysAt hfound hk Y.cause (a (.lays cls Bundle.tN "cause" "Ljava/lang/Throwable;") (by simp [Bundle.messageArmAtoms]))
  obtain ⟨tyS, dS, hdS, hdnS⟩ := Cond.laysAt hfound hk Y.stack (a (.lays cls Bundle.tN "stackTrace" Bundle.steD) (by simp [Bundle.messageArmAtoms]))
  obtain ⟨tyP, dP, hdP, hdnP⟩ := Cond.laysAt hfound hk Y.supp (a (.lays cls Bundle.tN "suppressedExceptions" Bundle.listD) (by simp [Bundle.messageArmAtoms]))
  obtain ⟨tyM, dM, hdM, hdnM⟩ := Cond.laysAt hfound hk hffM (a (.lays cls Bundle.tN "detailMessage" "Ljava/lang/String;") (by simp [Bundle.messageArmAtoms]))
  obtain ⟨tyB, dB, hdB, hdnB⟩ := Cond.laysAt hfound hk hffB (a (.lays cls Bundle.tN "backtrace" "Ljava/lang/Object;") (by simp [Bundle.messageArmAtoms]))
  have bC := Cond.laysApart hdB hdC hdnB hdnC (by rw [hnB, Y.causeName]; decide)
  have bS := Cond.laysApart hdB hdS hdnB hdnS (by rw [hnB, Y.stackName]; decide)
  have bP := Cond.laysApart hdB hdP hdnB hdnP (by rw [hnB, Y.suppName]; decide)
  have hbk : ((preparedCellV T.toThrowableT (freshCell P1.m.cls kX) (W.heap.size + 2) u0 sen).withEntry W.cur).slots[fB.slot]? = some .null := by
    have := fresh_default (c := P1.m.cls) tyB
    rw [htB] at this
    simpa [preparedCellV, Cell.setSlot, Cell.withEntry, Array.getElem?_setIfInBounds, bC, bS, bP, bC.symm, bS.symm, bP.symm, defaultValue] using this
  have tkC := Takes.of_laid (v := .ref (W.heap.size + 2)) hk hord tyC (by rw [Y.causeType]; rfl)
  have tkS := Takes.of_laid (v := u0.v) hk hord tyS (by rw [Y.stackType]; exact fits_refV_array _ u0)
  have tkP := Takes.of_laid (v := sen.v) hk hord tyP (by rw [Y.suppType]; exact fits_refV_object _ sen)
  have tkM := Takes.of_laid (v := .ref (W.heap.size + 1)) hk hord tyM (by rw [Y.msgType]; rfl)
  have hskip : SkipFacts T e.platform s (fun u => u) u0 ((preparedCellV T.toThrowableT (freshCell P1.m.cls kX) (W.heap.size + 2) u0 sen).withEntry W.cur) := ⟨{ ci198 := ci198, i198 := i198, fBack := fB }, ⟨hk198, hg198, ha198, hsB⟩, hbk, fun _ _ => rfl⟩
  obtain ⟨vm', X5, st, -⟩ := X.nativeThrowsMessageColdBareV hexec hsize hnf T L Z LZ M LM Zs LZs P1 L1 Ps hL hlink1 hlink hsoe hoom hfound hk hinit hord hctor htext hlimit hheap
    (hfitv _) (hfitc _) hsel0 hselF hcellS hknownS hvU hvSen tkC tkS tkP tkM Y.objLocals hskip (fun _ _ hA hW _ hroom _ hrest => L.nativeOff p htr hA hW hroom hrest)
    (by rw [hlen]; exact hRframes) hRlocals (by rw [hlen]; exact hshort) hRcells (by rw [hn4, hn6]; exact hRslots)
  have b1 : (bytesOf Zs.cB (stringToUtf16 text)).slots.size = (stringBytes (stringToUtf16 text)).size := by
    rw [(Cell.writeAll_facts _ _).2.2]; simp [bytes0]
  have b2 : (stringAt Zs.cS Zs.kS Zs.fv Zs.fc (stringToUtf16 text) W.heap.size).slots.size = 4 := by simp [string0, Cell.setSlot, hn4]
  have b3 : (freshCell P1.m.cls kX).slots.size = 6 := by simp [hn6]
  rw [b1, b2, b3] at X5
  have e9 : slots + (stringBytes (stringToUtf16 text)).size + 4 + 6 = slots + ((stringBytes (stringToUtf16 text)).size + 4 + 6) := by omega
  rw [e9] at X5
  have hlt : W.heap.size + 2 < ((withThrown W Zs text P1.m.cls kX).setVm vm').heap.size := by
    show W.heap.size + 2 < (withThrown W Zs text P1.m.cls kX).heap.size
    rw [(withThrown_facts e.platform W Zs text P1.m.cls kX).2.2.1]; omega
  refine ⟨((withThrown W Zs text P1.m.cls kX).setVm vm').setCell (W.heap.size + 2) (plainBareV T.toThrowableT (freshCell P1.m.cls kX) (W.heap.size + 2) u0 sen (.ref (W.heap.size + 1))), W.heap.size + 2, _,
    X5.forget (fun y hy => ?_), heapAt_setCell_self _ hlt, hfound, rfl, st⟩
  simp only [List.mem_cons, List.not_mem_nil, or_false] at hy
  have hge : s.heap.size ≤ W.heap.size := X.same.2.1
  rcases hy with rfl | rfl | rfl | rfl | rfl <;> exact Nat.le_trans hge (Nat.le_add_right _ 2)
end VXN
/-- the exception of an arraycopy out of range -/
def aioN : String := "java/lang/ArrayIndexOutOfBoundsException"
def aioU : List String := ["java/lang/IndexOutOfBoundsException", "java/lang/RuntimeException", "java/lang/Exception"]
theorem int_print {x : Int} (h1 : -(10 ^ 10 - 1) < x) (h2 : x < 10 ^ 10) : (toString x).toList.length ≤ 11 := by
  show (Int.repr x).toList.length ≤ 11
  cases h : x with
  | ofNat m =>
    rw [h] at h2
    have h2' : (m : Int) < 10 ^ 10 := h2
    have := nat_print (n := m) (by omega)
    show (toString m).toList.length ≤ 11
    omega
  | negSucc m =>
    rw [h] at h1
    have h1' : -((10 : Int) ^ 10 - 1) < -((m : Int) + 1) := by simpa [Int.negSucc_eq] using h1
    have := nat_print (n := m.succ) (by omega)
    show ("-" ++ toString m.succ).toList.length ≤ 11
    rw [String.toList_append, List.length_append]
    have h0 : "-".toList.length = 1 := by decide
    omega
theorem acp_text {n0 n1 : Nat} {sp dp n : Int32} (h0 : n0 ≤ 40) (h1 : n1 ≤ 40) {what : String} (h : copyFault .int .int n0 n1 sp dp n = some what) : ((("arraycopy: " ++ what : String)) == notModelled) = false ∧ (stringBytes (stringToUtf16 ("arraycopy: " ++ what))).size ≤ 444 := by
  have hw : what.toList.length ≤ 100 := by
    have i1 := int32_print sp
    have i2 := int32_print dp
    have i3 := int32_print n
    have b1 := Int32.toInt_lt sp
    have b2 := Int32.le_toInt sp
    have b3 := Int32.toInt_lt dp
    have b4 := Int32.le_toInt dp
    have b5 := Int32.toInt_lt n
    have b6 := Int32.le_toInt n
    have i4 := int_print (x := sp.toInt + n.toInt) (by omega) (by omega)
    have i5 := int_print (x := dp.toInt + n.toInt) (by omega) (by omega)
    have i6 := nat_print (n := n0) (by omega)
    have i7 := nat_print (n := n1) (by omega)
    unfold copyFault at h
    have ts : ∀ x : String, toString x = x := fun _ => rfl
    have k3 : (Native.java_lang_System.arraycopy.kindName FieldType.int).toList.length = 3 := by decide +kernel
    have t1 : ("source index " : String).toList.length = 13 := by decide
    have t2 : ("destination index " : String).toList.length = 18 := by decide
    have t3 : ("length " : String).toList.length = 7 := by decide
    have t4 : (" is negative" : String).toList.length = 12 := by decide
    have t5 : ("last source index " : String).toList.length = 18 := by decide
    have t6 : ("last destination index " : String).toList.length = 23 := by decide
    have t7 : (" out of bounds for " : String).toList.length = 19 := by decide
    have t8 : ("[" : String).toList.length = 1 := by decide
    have t9 : ("]" : String).toList.length = 1 := by decide
    have t0 : ("" : String).toList.length = 0 := by decide
    repeat' split at h
    all_goals first
      | (rw [← Option.some.inj h]
         simp only [ts, String.toList_append, List.length_append, k3, t0, t1, t2, t3, t4, t5, t6, t7, t8, t9]
         omega)
      | cases h
  refine ⟨?_, ?_⟩
  · rw [beq_eq_false_iff_ne]
    intro hh
    have h2 := congrArg String.toList hh
    rw [String.toList_append] at h2
    have h4 : notModelled.toList = '\u0000' :: " a message that is not modelled".toList := by decide
    rw [h4] at h2
    simp at h2
  · have c1 := stringBytes_size_le (stringToUtf16 ("arraycopy: " ++ what))
    have c2 := utf16_size_le ("arraycopy: " ++ what)
    rw [String.toList_append, List.length_append] at c2
    have c3 : ("arraycopy: " : String).toList.length = 11 := by decide
    omega
/-- out of range: the machine finds a fault -/
theorem acp_fault {f g : Nat → Int32} {n0 n1 : Nat} {sp dp n : Int32} (h : acp f n0 sp g n1 dp n = none) : ∃ what, copyFault .int .int n0 n1 sp dp n = some what := by
  have nn : ∀ z : Int32, ¬ z < 0 → z.toInt = (z.toNatClampNeg : Int) := by
    intro z hz
    have hz0 : (0 : Int) ≤ z.toInt := by
      have := Int32.not_lt.mp hz
      simpa using Int32.le_iff_toInt_le.mp this
    show z.toInt = ((z.toInt.toNat : Nat) : Int)
    omega
  unfold copyFault
  by_cases h1 : sp < 0
  · rw [if_pos h1]; exact ⟨_, rfl⟩
  rw [if_neg h1]
  by_cases h2 : dp < 0
  · rw [if_pos h2]; exact ⟨_, rfl⟩
  rw [if_neg h2]
  by_cases h3 : n < 0
  · rw [if_pos h3]; exact ⟨_, rfl⟩
  rw [if_neg h3]
  have e1 := nn sp h1
  have e2 := nn dp h2
  have e3 := nn n h3
  by_cases h4 : sp.toInt + n.toInt > n0
  · rw [if_pos h4]; exact ⟨_, rfl⟩
  rw [if_neg h4]
  by_cases h5 : dp.toInt + n.toInt > n1
  · rw [if_pos h5]; exact ⟨_, rfl⟩
  exfalso
  unfold acp at h
  rw [if_pos ⟨h1, h2, h3, by omega, by omega⟩] at h
  cases h
def XL (A : Nat → Prop) (U : State) (H : Heap) : Prop := vx_L Bundle.tN "UNASSIGNED_STACK" Bundle.steD A U H ∧ vx_L Bundle.tN "SUPPRESSED_SENTINEL" Bundle.listD A U H
def XE (D : va_G) (cs : Nat → Nat) (wi : va_W) : XT := fun A U H => XI D cs wi A U H ∧ XL A U H
theorem XE.ok {D : va_G} {cs : Nat → Nat} {wi : va_W} : XOK (XE D cs wi) := by
  refine ⟨fun A u U H h hX => ⟨XI.ok.1 A u U H h hX.1, ?_⟩, fun A U H H1 hX hq => ⟨XI.ok.2.1 A U H H1 hX.1 hq, vx_L.kept hX.2.1 hq, vx_L.kept hX.2.2 hq⟩, fun A B U H hX hAB => ⟨XI.ok.2.2 A B U H hX.1 hAB, vx_L.narrow hX.2.1 hAB, vx_L.narrow hX.2.2 hAB⟩⟩
  have ha : u.vm.Alike U.vm := by
    rcases h with h | h
    · exact h.alike
    · rw [h]; exact Vm.Alike.refl _
  exact ⟨vx_L.moved ha hX.2.1, vx_L.moved ha hX.2.2⟩
def isTab : Cond → Bool
  | .castable _ _ => true
  | .declares _ => true
  | _ => false
def inL (w : Cond) : Bool := decide (w ∈ lw_all) || (isTab w && decide (w ∈ lw_tbl))
theorem vx_hats {L : List Cond} {args : Array Value} {s : State} (hL : L.all inL = true) (hts : ∀ w ∈ lw_all, w.before args s = true) (hT : Tb s) : ∀ w ∈ L, w.before args s = true := by
  intro w hw
  have h := List.all_eq_true.mp hL w hw
  unfold inL at h
  rcases Bool.or_eq_true_iff.mp h with h | h
  · exact hts w (of_decide_eq_true h)
  · obtain ⟨h1, h2⟩ := Bool.and_eq_true_iff.mp h
    have h2 := of_decide_eq_true h2
    cases w
    case castable a b => exact va_tabs rfl rfl (Tb.cast h2 hT)
    case declares x => exact va_tabs rfl rfl (Tb.decl h2 hT)
    all_goals exact absurd h1 (by simp [isTab])
theorem aio_in : (vx_atM aioN aioU).all inL = true := by decide +kernel
theorem aio_ot : ∀ w ∈ vx_atM aioN aioU, vx_ot w = true := by decide +kernel
theorem descCopy9 : parseMethodDescriptor arraycopyName.desc = some { parameters := [.object "java/lang/Object", .int, .object "java/lang/Object", .int, .int], returnType := none } := by decide +kernel
section XAC
variable {p : Program} {l : Launch} {e : Env} {R : Room} {s : State} {m : MethodId} {args : Array Value} {below : List Frame} {meth : Method} {c : Code} {H : Heap} {locs : List Loc} {cells slots : Nat} {Q : State → Prop}
variable {cc : ByteArray} {pc : Nat} {ls : Array Slot} {rest : List Value} {D : va_G} {d : Nat → ClassId} {A : Nat → Prop} {cs : Nat → Nat} {wi ws : va_W} {own nm : String} {nL : Nat} {ret : Option FieldType}
set_option maxHeartbeats 1000000 in
theorem x_acpx (hfl : l.stackTraces = false) (hE : XL A s s.heap) (cx : Cx p s m args meth c (XI D cs wi) D d A own cc nL ret nm) (hw : Wd D A s ws H locs) (hl : ls.size = nL) {q0 q1 n0 n1 a0 a1 idx : Nat} {f g : Nat → Int32} {sp dp n : Int32} (ha0 : ws[q0]? = some (a0, .inl (d 0, n0, .inl f))) (ha1 : ws[q1]? = some (a1, .inl (d 0, n1, .inl g))) (h40 : n0 ≤ 40) (h41 : n1 ≤ 40) (hbad : acp f n0 sp g n1 dp n = none) (hlink : Cond.methodLink own idx arraycopyName ∈ lw_all) (hRf : 9 ≤ R.frames) (hRl : (rest.map fun v => v.category).sum + 10240 ≤ R.locals) (hRc : cells + 3 ≤ R.cells) (hRs : slots + 454 ≤ R.slots) (hdg : decode cc pc = .ok (.invokestatic idx, 3))
    (k : ∀ (H1 : Heap) (q9 : Addr) (ce : Cell), Wd D A s ws H1 locs → H1[q9]? = some ce → ce.vm = .none → s.vm.findClass aioN = some ce.cls → vx_W p l e R s m args below meth c H1 locs (cells + 3) (slots + 454) Q (F0 m pc ls rest) q9) :
    W p l e R s m args below meth c H locs cells slots Q (F0 m pc ls (.int n :: .int dp :: .ref a1 :: .int sp :: .ref a0 :: rest)) := by
  have cx' := cx
  obtain ⟨hx, hb, hr, hlk, hml, hown, hts, hK, hA, hXs, hnm⟩ := cx'
  obtain ⟨what, hwhat⟩ := acp_fault hbad
  obtain ⟨htext, hnb⟩ := acp_text h40 h41 hwhat
  have hP := hw.1
  have hc0 : H[a0]? = some (vp_cell (d 0) (n0, .inl f)) := hP q0 _ ha0
  have hc1 : H[a1]? = some (vp_cell (d 0) (n1, .inl g)) := hP q1 _ ha1
  obtain ⟨-, k0, hk0, cm0, hkk0⟩ := (hK.2 0 _ rfl).1 n0 (fun j => .int (f j))
  intro T hT X
  have htr : e.platform.stackTraces = false := (show e.platform.stackTraces = l.stackTraces by rw [X.admits.platform]).trans hfl
  have hnat := hts _ q494
  have hstat := hts _ q493
  obtain ⟨r, methS, hnS, hmS, _, _, _, hsigS⟩ := Cond.native_spec hnat
  have hB : Jvm.Free.BackT l R p e below s args arraycopyName 3 ((rest.map fun v => v.category).sum) (fun A0 a => a = #[.ref a0, .int sp, .ref a1, .int dp, .int n] ∧ A0.U.heap = H ∧ A0.locs = locs ∧ A0.cells = cells ∧ A0.slots = slots)
      (fun A0 a q B => H.size ≤ B.U.heap.size ∧ (∀ z : Nat, z < H.size → B.U.heap[z]? = H[z]?) ∧ ∃ ce, B.U.heap[q]? = some ce ∧ ce.vm = .none ∧ s.vm.findClass aioN = some ce.cls ∧ B.locs = locs ∧ B.cells = cells + 3 ∧ B.slots = slots + 454) := by
    refine Jvm.Free.BackT.of_native (row := arraycopyRow) (words := 5) (arraycopy_row p) (Jvm.Free.nativeStatic hnat hstat descCopy9) (by omega) (by rw [Jvm.Free.nativeFrameWords_plain 5 (by decide)]; omega) ?_
    intro m2 meth2 c2 A0 a x g2 mk X2 hg2 hsize2 hW2 hn2 hst2 hps2 hask
    obtain ⟨rfl, hH, hlc, hcc, hss⟩ := hask
    obtain ⟨U, Ls, c0, s0⟩ := A0
    dsimp only [Pt.U, Pt.locs, Pt.cells, Pt.slots] at hH hlc hcc hss X2 hn2 ⊢
    subst hlc hcc hss
    obtain ⟨k0', hk0', hes⟩ := X2.warmed.alike.2.2 _ _ hk0
    refine ⟨rfl, by simp [seenByNative, hst2, hps2, narrow], aioN, some ("arraycopy: " ++ what), id, fun _ => rfl, rfl, fun fs E hE9 => ?_, ?_⟩
    · rw [arraycopyRow_sem]
      refine Jvm.W.arraycopy_bounds (s := U.setFrames fs) (cs := vp_cell (d 0) (n0, .inl f)) (cd := vp_cell (d 0) (n1, .inl g)) (ks := k0') (kd := k0') (sComp := cm0) (dComp := cm0) (sType := .int) (dType := .int) (what := what) (by show U.heap[a0]? = _; rw [hH]; exact hc0) (by show U.heap[a1]? = _; rw [hH]; exact hc1) (fun _ h => by cases h) (fun _ h => by cases h) hk0' hk0' (by rw [hes]; exact hkk0) (by rw [hes]; exact hkk0) rfl ?_ (hE9 _)
      show copyFault _ _ (arrV (d 0) n0 (fun j => .int (f j))).slots.size (arrV (d 0) n1 (fun j => .int (g j))).slots.size _ _ _ = _
      rw [arrV_size, arrV_size]; exact hwhat
    · have Y := vx_rebase X2 (R' := { frames := R.frames, locals := R.locals, cells := 3, slots := 454 }) (Nat.le_refl _) (Nat.le_refl _) hRc hRs
      have hW0 : s.WarmedH ((U.setVm s.vm).setFrames (.invoking m2 args :: below)).vm := State.WarmedH.refl s
      have hhp : ((U.setVm s.vm).setFrames (.invoking m2 args :: below)).heap = H := hH
      have hat' : ∀ w ∈ vx_atM aioN aioU, w.before args ((U.setVm s.vm).setFrames (.invoking m2 args :: below)) = true := fun w hw => vx_ot_at hW0 rfl (aio_ot w hw) (vx_hats aio_in hts hXs.1 w hw)
      have hU : vx_Zq Bundle.tN "UNASSIGNED_STACK" Bundle.steD A s s.heap := ⟨hXs.2.1.2.1, hE.1⟩
      have hN : vx_Zq Bundle.tN "SUPPRESSED_SENTINEL" Bundle.listD A s s.heap := ⟨hXs.2.1.2.2.1, hE.2⟩
      have hU' : vx_Zq Bundle.tN "UNASSIGNED_STACK" Bundle.steD A ((U.setVm s.vm).setFrames (.invoking m2 args :: below)) ((U.setVm s.vm).setFrames (.invoking m2 args :: below)).heap := by rw [hhp]; exact vx_Zq.moved hW0.alike (hU.kept hw.2.2.2.1)
      have hN' : vx_Zq Bundle.tN "SUPPRESSED_SENTINEL" Bundle.listD A ((U.setVm s.vm).setFrames (.invoking m2 args :: below)) ((U.setVm s.vm).setFrames (.invoking m2 args :: below)).heap := by rw [hhp]; exact vx_Zq.moved hW0.alike (hN.kept hw.2.2.2.1)
      obtain ⟨S, q, ce, Z, hce, hcl', hv, st⟩ := vx_natAt Y hx htr (cls := aioN) (names := aioU) (text := "arraycopy: " ++ what) (by decide +kernel) (by decide +kernel) (by decide +kernel) (by decide +kernel) (vx_own hat' (vx_isRefq hU'.1) (vx_isRefq hN'.1) hU'.2.word hN'.2.word) (fun x hx => nomatch hx) htext
        (by rw [Launch.admits_arrayLengthLimit X2.admits]; omega) (by rw [Launch.admits_maxHeapBytes X2.admits]; simp only [componentBytes]; omega)
        (g := g2) hg2 hsize2 (nf := { method := mk, args := #[.ref a0, .int sp, .ref a1, .int dp, .int n], locked := none }) rfl (show 3 + 5 < R.frames by omega) (show 2 * g2.monitorRoom + (g2.stack.map fun v => v.category).sum + 10240 ≤ R.locals by omega) (by decide) (Nat.le_refl 3) (by show 0 + _ ≤ 454; omega)
      obtain ⟨f1, f2⟩ := vx_frame Z.same
      have X5 := vx_back9 X2 Y Z
      refine ⟨q, ⟨S, Ls, c0 + 3, s0 + 454⟩, { X5 with same := X5.same.mono (by first | omega | (dsimp only [Pt.cells, Pt.slots]; omega)) (by first | omega | (dsimp only [Pt.cells, Pt.slots]; omega)) }, ⟨by rw [← hH]; exact f1, fun z hz => by rw [← hH]; exact f2 z (by rw [← hH] at hz; exact hz) (fun y hy => nomatch hy), ce, hce, hv, ?_, rfl, rfl, rfl⟩, st⟩
      exact hcl'
  obtain ⟨v, vm1, B, hWv, XB, ⟨g1, g2, ce, g3, g4, g5, g6, g7, g8⟩, hsteps⟩ := X.staticThrows hx hown (hts _ hlink) hstat (hts _ q103) hnS hmS hsigS (by decide) hB (g := F0 m pc ls (.int n :: .int dp :: .ref a1 :: .int sp :: .ref a0 :: rest)) rfl (by rw [hml]; exact hl) (Steps.refl _) (argsL := [.ref a0, .int sp, .ref a1, .int dp, .int n]) (rest := rest) (fun sig hs => by rw [show parseMethodDescriptor arraycopyName.desc = _ from descCopy9] at hs; cases hs; rfl) rfl (by show 2 * 0 + _ ≤ _; omega) (by rw [hb]; exact hdg) (fun vm₁ _ => ⟨rfl, hT, rfl, rfl, rfl⟩)
  obtain ⟨Bu, Bl, Bc, Bs⟩ := B
  dsimp only [Pt.U, Pt.locs, Pt.cells, Pt.slots] at XB g1 g2 g3 g6 g7 g8 hsteps
  subst g6 g7 g8
  have hw1 : Wd D A s ws Bu.heap Bl := ⟨hP.kept (fun j q hq => g2 q.1 (hP j q hq).lt), hw.2.1, Nat.le_trans hw.2.2.1 g1, fun q h1 h2 => (g2 q (Nat.lt_of_lt_of_le h1 hw.2.2.1)).trans (hw.2.2.2.1 q h1 h2), hw.2.2.2.2⟩
  obtain ⟨t, a1, b1⟩ := k Bu.heap v ce hw1 g3 g4 g5 Bu rfl XB
  exact ⟨t, hsteps.trans a1, b1⟩
end XAC
