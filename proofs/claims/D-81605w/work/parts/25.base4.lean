/-! BASE 4: methods that throw; calls between nest mates -/
set_option maxRecDepth 100000
/-- a contract that always throws: an object of cls, its address in the world behind -/
def TMet {S : Type} (l : Launch) (y : MethodName) (wy : List Cond) (rm : Room) (av : List Value) (X : XT) (D : va_G) (d : Nat → ClassId) (ws : va_W) (cls : String) (wx : Nat → S → va_W) : Prop :=
  ∀ sz : Nat, vx_Met l y wy rm (va_Pc av (preW X D d ws sz)) (va_Qv (fun (_ : Unit) => False) (fun _ _ => True) (va_A ws sz)) (vx_X (fun _ : S => True) (fun E q u t => E = cls ∧ posW D (wx q u) (va_A ws sz) t) (va_A ws sz)) rm.cells rm.slots (va_A ws sz)
theorem TMet.of {S : Type} {l : Launch} {y : MethodName} {cc : ByteArray} {maxL : Nat} {ret : Option FieldType} {rm : Room} {av : List Value} {X : XT} {D : va_G} {d : Nat → ClassId} {ws : va_W} {cls : String} {wx : Nat → S → va_W} (hy : plainName y.cls = true) (hn : (lg_sl av).length ≤ maxL)
    (body : ∀ (p : Program) (e : Env) (s : State) (m : MethodId) (below : List Frame) (meth : Method) (c : Code) (A : Nat → Prop), Cx p s m av.toArray meth c X D d A y.cls cc maxL ret y.name → (∀ x ∈ c.exceptionTable.toList, False) → Wd D A s ws s.heap [] → ∀ ls : Array Slot, lv_has ls maxL (lv_args 0 av) →
      W p l e rm s m av.toArray below meth c s.heap [] 0 0 (vx_MQ below (va_Qv (fun (_ : Unit) => False) (fun _ _ => True) A) (vx_X (fun _ : S => True) (fun E q u t => E = cls ∧ posW D (wx q u) A t) A) av.toArray s rm.cells rm.slots A) (F0 m 0 ls [])) : TMet l y (ws_ y cc maxL ret) rm av X D d ws cls wx := by
  intro sz
  refine vx_ofW (cc := cc) (maxL := maxL) (ret := ret) hy rfl ?_
  intro p e s m args below meth c s₁ Bd hml hET hv
  obtain ⟨rfl, hsz, hP, hK, hD0, hXs⟩ := hv
  have hts := atoms_spec (ws := ws_ y cc maxL ret) Bd.pre
  have hts : ∀ w ∈ lw_all, w.before _ s = true := fun w h => hts w (List.mem_cons_of_mem _ h)
  have hown : s.vm.findClass y.cls = some m.cls := findClass_of_methodNamed Bd.named
  have hnm : meth.name = y.name := (name_of_methodNamed Bd.named Bd.method).1
  subst hsz
  have hD := hD0.self (sz := s.heap.size)
  have hA : ∀ q : Nat, s.heap.size ≤ q → va_A ws s.heap.size q := fun q h => Or.inr h
  have hl := lv_entry av (n := maxL) hn
  rw [lg_entry_eq]
  exact body p e s m below meth c _ ⟨Bd.exec, Bd.bytes, Bd.returns, Bd.notSynchronized, hml, hown, hts, hK, hA, hXs, hnm⟩ hET ⟨hP, hD, va_S.rf⟩ _ hl
section XT4
variable {p : Program} {l : Launch} {e : Env} {R : Room} {s : State} {m : MethodId} {args : Array Value} {below : List Frame} {meth : Method} {c : Code} {H : Heap} {locs : List Loc} {cells slots : Nat} {Q : State → Prop}
variable {cc : ByteArray} {pc : Nat} {ls : Array Slot} {rest : List Value} {X : XT} {D : va_G} {d : Nat → ClassId} {A : Nat → Prop} {a : Nat} {ws : va_W} {own nm : String} {nL : Nat} {ret : Option FieldType}
/-- out of the method, throwing -/
theorem x_out {S : Type} {cls : String} {wx : Nat → S → va_W} {mc ms : Nat} {q : Nat} {ce : Cell} (cx : Cx p s m args meth c X D d A own cc nL ret nm) (hET : ∀ x ∈ c.exceptionTable.toList, False) (hw : Wd D A s ws H locs) (u : S) (hcell : H[q]? = some ce) (hv : ce.vm = .none) (hcl : s.vm.findClass cls = some ce.cls) (is : List Nat) (hi : va_nd is = true) (hs : is.map (fun i => ws[i]?) = (wx q u).map some) (hc : cells ≤ mc) (hsl : slots ≤ ms) :
    vx_W p l e R s m args below meth c H locs cells slots (vx_MQ below (va_Qv (fun (_ : Unit) => False) (fun _ _ => True) A) (vx_X (fun _ : S => True) (fun E q u t => E = cls ∧ posW D (wx q u) A t) A) args s mc ms A) (F0 m pc ls rest) q := by
  obtain ⟨hx, hb, hr, hlk, -⟩ := cx
  have hw := hw.sub is hi hs
  exact vx_out (E := cls) (fun x hx => (hET x hx).elim) hlk hcell hv hcl (fun t ht hW => ⟨u, trivial, ⟨rfl, by rw [ht]; exact hw.1, hw.2.1⟩, hw.2.2.F ht⟩) hw.2.2.2.2 hc hsl
/-- what the machine asks of the thrown cell, from the world -/
theorem x_thrown {q k ci : Nat} {fs : List Value} {r : vw_C} (cx : Cx p s m args meth c X D d A own cc nL ret nm) (hw : Wd D A s ws H locs) (hq : ws[k]? = some (q, .inr (ci, fs))) (hc : vwCl[ci]? = some r) : ∃ ce : Cell, H[q]? = some ce ∧ ce.vm = .none ∧ s.vm.findClass r.1 = some ce.cls := by
  obtain ⟨r', h1, cell, g1, g2, g3, -⟩ := hw.1 k _ hq
  obtain ⟨hx, hb, hr, hlk, hml, hown, hts, hK, -⟩ := cx
  exact ⟨cell, g1, g3, by rw [g2]; exact (hK.1 ci r hc).2.1⟩

/-- a static call that throws -/
theorem x_TS {S : Type} {cls : String} {wx : Nat → S → va_W} {wc wr : va_W} {y : MethodName} {bytes : ByteArray} {maxL idx n : Nat} {rt : Option FieldType} {rm : Room} {st0 : List Value} (As : List Value) (hX : XOK X) (cx : Cx p s m args meth c X D d A own cc nL ret nm) (hw : Wd D A s ws H locs) (hl : ls.size = nL)
    (hM : TMet l y (ws_ y bytes maxL rt) rm As X D d wc cls wx) (hg : GoodIn lw_all (va_wsS own idx y (ws_ y bytes maxL rt))) (hd : y.cls ≠ "java/lang/invoke/MethodHandle" ∧ y.cls ≠ "java/lang/invoke/VarHandle" ∧ (parseMethodDescriptor y.desc).map (fun d => d.parameters.length) = some n) (hR : rm.frames + 1 ≤ R.frames ∧ 8 + (maxL + 11) + rm.locals ≤ R.locals)
    (hlen : As.length = n) (hst : st0 = As.reverse ++ rest) (hWr : (rest.map fun v => v.category).sum ≤ 8) (hdg : decode cc pc = .ok (.invokestatic idx, 3)) (isC isR : List Nat) (hnC : va_nd isC = true) (hC : isC.map (fun i => ws[i]?) = wc.map some) (hRr : isR.map (fun i => ws[i]?) = wr.map some) (hnR : va_nd isR = true) (hdis : ∀ i ∈ isR, i ∉ isC) (hf : cells + rm.cells ≤ R.cells ∧ slots + rm.slots ≤ R.slots)
    (kx : ∀ (q : Nat) (ce : Cell) (u : S) (H1 : Heap) (locs1 : List Loc), Wd D A s (wr ++ wx q u) H1 locs1 → H1[q]? = some ce → ce.vm = .none → s.vm.findClass cls = some ce.cls → vx_W p l e R s m args below meth c H1 locs1 (cells + rm.cells) (slots + rm.slots) Q (F0 m pc ls rest) q) : W p l e R s m args below meth c H locs cells slots Q (F0 m pc ls st0) := by
  obtain ⟨hFc, hpre⟩ := hw.give hX cx isC hnC hC
  have cx' := cx
  obtain ⟨hx, hb, hr, hlk, hml, hown, hts, hK, hA, hXs, -⟩ := cx'
  exact vx_callv (vx_runS (As := As) (rest := rest) ⟨hx, hb, hml, hown, hts⟩ (hM H.size) (va_cwS n hts hg rfl rfl rfl hd hR) ⟨preW.blind hX, fun U hU hW => ⟨rfl, hpre U hU hW⟩⟩ rfl hlen hl hst (lv_room hWr) hdg hf) hw.2.2 (fun q _ h => hFc q h) hFc (fun q _ h => hFc q h) (fun E ce q9 u t H1 locs1 ht hvm hp hB hz hk hS1 hce hcv hcl => by
    obtain ⟨e1, hB⟩ := hB
    subst e1
    exact kx q9 ce u H1 locs1 (hw.back isC isR hC hRr hnR hdis hFc ht hk hB hS1) hce hcv hcl) (fun u t H1 locs1 ht hvm hp => hp.elim)
/-- a virtual call that throws -/
theorem x_TV {S : Type} {cls : String} {wx : Nat → S → va_W} {wc wr : va_W} {y : MethodName} {bytes : ByteArray} {maxL idx n : Nat} {rt : Option FieldType} {rm : Room} {b : Nat} {C : String} {st0 : List Value} (As : List Value) (hX : XOK X) (cx : Cx p s m args meth c X D d A own cc nL ret nm) (hw : Wd D A s ws H locs) (hl : ls.size = nL)
    (hM : TMet l y (ws_ y bytes maxL rt) rm (.ref b :: As) X D d wc cls wx) (hg : GoodIn lw_all (wsV own idx C y (ws_ y bytes maxL rt))) (hd : y.cls = C ∧ y.cls ≠ "java/lang/invoke/MethodHandle" ∧ y.cls ≠ "java/lang/invoke/VarHandle" ∧ (parseMethodDescriptor y.desc).map (fun d => d.parameters.length) = some n) (hR : rm.frames + 1 ≤ R.frames ∧ 8 + (maxL + 11) + rm.locals ≤ R.locals)
    (hrecv : ∃ cell : Cell, H[b]? = some cell ∧ cell.vm.isStatics = false ∧ s.vm.findClass C = some cell.cls) (hlen : As.length = n) (hst : st0 = As.reverse ++ .ref b :: rest) (hWr : (rest.map fun v => v.category).sum ≤ 8) (hdg : decode cc pc = .ok (.invokevirtual idx, 3)) (isC isR : List Nat) (hnC : va_nd isC = true) (hC : isC.map (fun i => ws[i]?) = wc.map some) (hRr : isR.map (fun i => ws[i]?) = wr.map some) (hnR : va_nd isR = true) (hdis : ∀ i ∈ isR, i ∉ isC) (hf : cells + rm.cells ≤ R.cells ∧ slots + rm.slots ≤ R.slots)
    (kx : ∀ (q : Nat) (ce : Cell) (u : S) (H1 : Heap) (locs1 : List Loc), Wd D A s (wr ++ wx q u) H1 locs1 → H1[q]? = some ce → ce.vm = .none → s.vm.findClass cls = some ce.cls → vx_W p l e R s m args below meth c H1 locs1 (cells + rm.cells) (slots + rm.slots) Q (F0 m pc ls rest) q) : W p l e R s m args below meth c H locs cells slots Q (F0 m pc ls st0) := by
  obtain ⟨hFc, hpre⟩ := hw.give hX cx isC hnC hC
  have cx' := cx
  obtain ⟨hx, hb, hr, hlk, hml, hown, hts, hK, hA, hXs, -⟩ := cx'
  exact vx_callv (vx_runV (As := As) (rest := rest) ⟨hx, hb, hml, hown, hts⟩ (hM H.size) (cwV n hts hg rfl rfl rfl hd hR) ⟨preW.blind hX, hrecv, fun U hU hW => ⟨rfl, hpre U hU hW⟩⟩ rfl hlen hl hst (lv_room hWr) hdg hf) hw.2.2 (fun q _ h => hFc q h) hFc (fun q _ h => hFc q h) (fun E ce q9 u t H1 locs1 ht hvm hp hB hz hk hS1 hce hcv hcl => by
    obtain ⟨e1, hB⟩ := hB
    subst e1
    exact kx q9 ce u H1 locs1 (hw.back isC isR hC hRr hnR hdis hFc ht hk hB hS1) hce hcv hcl) (fun u t H1 locs1 ht hvm hp => hp.elim)
/-- a nest mate's static method that throws -/
theorem x_TSN {S : Type} {cls host : String} {wx : Nat → S → va_W} {wc wr : va_W} {y : MethodName} {bytes : ByteArray} {maxL idx n : Nat} {rt : Option FieldType} {rm : Room} {st0 : List Value} (As : List Value) (hX : XOK X) (cx : Cx p s m args meth c X D d A own cc nL ret nm) (hw : Wd D A s ws H locs) (hl : ls.size = nL)
    (hM : TMet l y (ws_ y bytes maxL rt) rm As X D d wc cls wx) (hg : Cond.code y bytes maxL rt ∈ lw_all) (hnl : va_Nw (.methodLinkNest own idx y host) s) (hstat : Cond.static y ∈ lw_all) (hini : Cond.initialized y.cls ∈ lw_all) (hd : y.cls ≠ "java/lang/invoke/MethodHandle" ∧ y.cls ≠ "java/lang/invoke/VarHandle" ∧ (parseMethodDescriptor y.desc).map (fun d => d.parameters.length) = some n) (hR : rm.frames + 1 ≤ R.frames ∧ 8 + (maxL + 11) + rm.locals ≤ R.locals)
    (hlen : As.length = n) (hst : st0 = As.reverse ++ rest) (hWr : (rest.map fun v => v.category).sum ≤ 8) (hdg : decode cc pc = .ok (.invokestatic idx, 3)) (isC isR : List Nat) (hnC : va_nd isC = true) (hC : isC.map (fun i => ws[i]?) = wc.map some) (hRr : isR.map (fun i => ws[i]?) = wr.map some) (hnR : va_nd isR = true) (hdis : ∀ i ∈ isR, i ∉ isC) (hf : cells + rm.cells ≤ R.cells ∧ slots + rm.slots ≤ R.slots)
    (kx : ∀ (q : Nat) (ce : Cell) (u : S) (H1 : Heap) (locs1 : List Loc), Wd D A s (wr ++ wx q u) H1 locs1 → H1[q]? = some ce → ce.vm = .none → s.vm.findClass cls = some ce.cls → vx_W p l e R s m args below meth c H1 locs1 (cells + rm.cells) (slots + rm.slots) Q (F0 m pc ls rest) q) : W p l e R s m args below meth c H locs cells slots Q (F0 m pc ls st0) := by
  obtain ⟨hFc, hpre⟩ := hw.give hX cx isC hnC hC
  have cx' := cx
  obtain ⟨hx, hb, hr, hlk, hml, hown, hts, hK, hA, hXs, -⟩ := cx'
  exact vx_callv (vx_runSN (As := As) (rest := rest) ⟨hx, hb, hml, hown, hts⟩ (hM H.size) ⟨va_cnB n hts (lw_meth hg) rfl rfl rfl hnl (hts _ hini) hd hR, hts _ hstat, trivial⟩ ⟨preW.blind hX, fun U hU hW => ⟨rfl, hpre U hU hW⟩⟩ rfl hlen hl hst (lv_room hWr) hdg hf) hw.2.2 (fun q _ h => hFc q h) hFc (fun q _ h => hFc q h) (fun E ce q9 u t H1 locs1 ht hvm hp hB hz hk hS1 hce hcv hcl => by
    obtain ⟨e1, hB⟩ := hB
    subst e1
    exact kx q9 ce u H1 locs1 (hw.back isC isR hC hRr hnR hdis hFc ht hk hB hS1) hce hcv hcl) (fun u t H1 locs1 ht hvm hp => hp.elim)

theorem x_SNI {S : Type} {host : String} {post : Int32 → S → Prop} {w1 : S → va_W} {wc wr : va_W} {y : MethodName} {bytes : ByteArray} {maxL idx n : Nat} {rt : Option FieldType} {rm : Room} {st0 : List Value} (As : List Value) (hX : XOK X) (cx : Cx p s m args meth c X D d A own cc nL ret nm) (hw : Wd D A s ws H locs) (hl : ls.size = nL)
    (hM : MetI l y (ws_ y bytes maxL rt) rm As X D d wc post w1) (hg : Cond.code y bytes maxL rt ∈ lw_all) (hnl : va_Nw (.methodLinkNest own idx y host) s) (hstat : Cond.static y ∈ lw_all) (hini : Cond.initialized y.cls ∈ lw_all) (hd : y.cls ≠ "java/lang/invoke/MethodHandle" ∧ y.cls ≠ "java/lang/invoke/VarHandle" ∧ (parseMethodDescriptor y.desc).map (fun d => d.parameters.length) = some n) (hR : rm.frames + 1 ≤ R.frames ∧ 8 + (maxL + 11) + rm.locals ≤ R.locals)
    (hlen : As.length = n) (hst : st0 = As.reverse ++ rest) (hWr : (rest.map fun v => v.category).sum ≤ 8) (hdg : decode cc pc = .ok (.invokestatic idx, 3)) (isC isR : List Nat) (hnC : va_nd isC = true) (hC : isC.map (fun i => ws[i]?) = wc.map some) (hRr : isR.map (fun i => ws[i]?) = wr.map some) (hnR : va_nd isR = true) (hdis : ∀ i ∈ isR, i ∉ isC) (hf : cells + rm.cells ≤ R.cells ∧ slots + rm.slots ≤ R.slots)
    (kk : ∀ (r : Int32) (u : S) (H1 : Heap) (locs1 : List Loc), post r u → Wd D A s (wr ++ w1 u) H1 locs1 → W p l e R s m args below meth c H1 locs1 (cells + rm.cells) (slots + rm.slots) Q (F0 m (pc + 3) ls (.int r :: rest))) : W p l e R s m args below meth c H locs cells slots Q (F0 m pc ls st0) := by
  obtain ⟨hFc, hpre⟩ := hw.give hX cx isC hnC hC
  have cx' := cx
  obtain ⟨hx, hb, hr, hlk, hml, hown, hts, hK, hA, hXs, -⟩ := cx'
  exact va_calli (va_runSN (As := As) (rest := rest) ⟨hx, hb, hml, hown, hts⟩ (hM H.size) ⟨va_cnB n hts (lw_meth hg) rfl rfl rfl hnl (hts _ hini) hd hR, hts _ hstat, trivial⟩ ⟨preW.blind hX, fun U hU hW => ⟨rfl, hpre U hU hW⟩⟩ rfl hlen hl hst (lv_room hWr) hdg hf) hw.2.2 (fun q _ h => hFc q h) hFc (fun r u t H1 locs1 ht hvm hp hB hz hk hS1 => kk r u H1 locs1 hp (hw.back isC isR hC hRr hnR hdis hFc ht hk hB hS1))
theorem x_SNV {S : Type} {host : String} {post : S → Prop} {w1 : S → va_W} {wc wr : va_W} {y : MethodName} {bytes : ByteArray} {maxL idx n : Nat} {rt : Option FieldType} {rm : Room} {st0 : List Value} (As : List Value) (hX : XOK X) (cx : Cx p s m args meth c X D d A own cc nL ret nm) (hw : Wd D A s ws H locs) (hl : ls.size = nL)
    (hM : MetV l y (ws_ y bytes maxL rt) rm As X D d wc post w1) (hg : Cond.code y bytes maxL rt ∈ lw_all) (hnl : va_Nw (.methodLinkNest own idx y host) s) (hstat : Cond.static y ∈ lw_all) (hini : Cond.initialized y.cls ∈ lw_all) (hd : y.cls ≠ "java/lang/invoke/MethodHandle" ∧ y.cls ≠ "java/lang/invoke/VarHandle" ∧ (parseMethodDescriptor y.desc).map (fun d => d.parameters.length) = some n) (hR : rm.frames + 1 ≤ R.frames ∧ 8 + (maxL + 11) + rm.locals ≤ R.locals)
    (hlen : As.length = n) (hst : st0 = As.reverse ++ rest) (hWr : (rest.map fun v => v.category).sum ≤ 8) (hdg : decode cc pc = .ok (.invokestatic idx, 3)) (isC isR : List Nat) (hnC : va_nd isC = true) (hC : isC.map (fun i => ws[i]?) = wc.map some) (hRr : isR.map (fun i => ws[i]?) = wr.map some) (hnR : va_nd isR = true) (hdis : ∀ i ∈ isR, i ∉ isC) (hf : cells + rm.cells ≤ R.cells ∧ slots + rm.slots ≤ R.slots)
    (kk : ∀ (u : S) (H1 : Heap) (locs1 : List Loc), post u → Wd D A s (wr ++ w1 u) H1 locs1 → W p l e R s m args below meth c H1 locs1 (cells + rm.cells) (slots + rm.slots) Q (F0 m (pc + 3) ls rest)) : W p l e R s m args below meth c H locs cells slots Q (F0 m pc ls st0) := by
  obtain ⟨hFc, hpre⟩ := hw.give hX cx isC hnC hC
  have cx' := cx
  obtain ⟨hx, hb, hr, hlk, hml, hown, hts, hK, hA, hXs, -⟩ := cx'
  exact va_callv (va_runSN (As := As) (rest := rest) ⟨hx, hb, hml, hown, hts⟩ (hM H.size) ⟨va_cnB n hts (lw_meth hg) rfl rfl rfl hnl (hts _ hini) hd hR, hts _ hstat, trivial⟩ ⟨preW.blind hX, fun U hU hW => ⟨rfl, hpre U hU hW⟩⟩ rfl hlen hl hst (lv_room hWr) hdg hf) hw.2.2 (fun q _ h => hFc q h) hFc (fun u t H1 locs1 ht hvm hp hB hz hk hS1 => kk u H1 locs1 hp (hw.back isC isR hC hRr hnR hdis hFc ht hk hB hS1))
/-- a nest mate's constructor -/
theorem x_NNV {S : Type} {host : String} {post : S → Prop} {w1 : S → va_W} {wc wr : va_W} {y : MethodName} {bytes : ByteArray} {maxL idx n : Nat} {rm : Room} {b : Nat} {st0 : List Value} (As : List Value) (hX : XOK X) (cx : Cx p s m args meth c X D d A own cc nL ret nm) (hw : Wd D A s ws H locs) (hl : ls.size = nL)
    (hM : MetV l y (ws_ y bytes maxL none) rm (.ref b :: As) X D d wc post w1) (hg : Cond.code y bytes maxL none ∈ lw_all) (hini : Cond.initialized y.cls ∈ lw_all) (hnl : Cond.methodLinkNest own idx y host ∈ lw_tbl) (hinst : Cond.instanceMethod y ∈ lw_all) (hT : Tb s) (hy1 : y.name = "<init>") (hd : y.cls ≠ "java/lang/invoke/MethodHandle" ∧ y.cls ≠ "java/lang/invoke/VarHandle" ∧ (parseMethodDescriptor y.desc).map (fun d => d.parameters.length) = some n) (hR : rm.frames + 1 ≤ R.frames ∧ 8 + (maxL + 11) + rm.locals ≤ R.locals)
    (hlen : As.length = n) (hst : st0 = As.reverse ++ .ref b :: rest) (hWr : (rest.map fun v => v.category).sum ≤ 8) (hdg : decode cc pc = .ok (.invokespecial idx, 3)) (isC isR : List Nat) (hnC : va_nd isC = true) (hC : isC.map (fun i => ws[i]?) = wc.map some) (hRr : isR.map (fun i => ws[i]?) = wr.map some) (hnR : va_nd isR = true) (hdis : ∀ i ∈ isR, i ∉ isC) (hf : cells + rm.cells ≤ R.cells ∧ slots + rm.slots ≤ R.slots)
    (kk : ∀ (u : S) (H1 : Heap) (locs1 : List Loc), post u → Wd D A s (wr ++ w1 u) H1 locs1 → W p l e R s m args below meth c H1 locs1 (cells + rm.cells) (slots + rm.slots) Q (F0 m (pc + 3) ls rest)) : W p l e R s m args below meth c H locs cells slots Q (F0 m pc ls st0) := by
  obtain ⟨hFc, hpre⟩ := hw.give hX cx isC hnC hC
  have cx' := cx
  obtain ⟨hx, hb, hr, hlk, hml, hown, hts, hK, hA, hXs, -⟩ := cx'
  exact va_callv (va_runIN (As := As) (rest := rest) ⟨hx, hb, hml, hown, hts⟩ (hM H.size) ⟨va_cnB n hts (lw_meth hg) rfl rfl rfl (Tb.nestM hnl hT) (hts _ hini) hd hR, hy1, hts _ hinst⟩ ⟨preW.blind hX, fun U hU hW => ⟨rfl, hpre U hU hW⟩⟩ rfl hlen hl hst (lv_room hWr) hdg hf) hw.2.2 (fun q _ h => hFc q h) hFc (fun u t H1 locs1 ht hvm hp hB hz hk hS1 => kk u H1 locs1 hp (hw.back isC isR hC hRr hnR hdis hFc ht hk hB hS1))
theorem x_SNR {S : Type} {host : String} {post : S → Prop} {w1 : S → Nat → va_W} {wc wr : va_W} {y : MethodName} {bytes : ByteArray} {maxL idx n : Nat} {rt : Option FieldType} {rm : Room} {st0 : List Value} (As : List Value) (hX : XOK X) (cx : Cx p s m args meth c X D d A own cc nL ret nm) (hw : Wd D A s ws H locs) (hl : ls.size = nL)
    (hM : MetR l y (ws_ y bytes maxL rt) rm As X D d wc post w1) (hg : Cond.code y bytes maxL rt ∈ lw_all) (hnl : va_Nw (.methodLinkNest own idx y host) s) (hstat : Cond.static y ∈ lw_all) (hini : Cond.initialized y.cls ∈ lw_all) (hd : y.cls ≠ "java/lang/invoke/MethodHandle" ∧ y.cls ≠ "java/lang/invoke/VarHandle" ∧ (parseMethodDescriptor y.desc).map (fun d => d.parameters.length) = some n) (hR : rm.frames + 1 ≤ R.frames ∧ 8 + (maxL + 11) + rm.locals ≤ R.locals)
    (hlen : As.length = n) (hst : st0 = As.reverse ++ rest) (hWr : (rest.map fun v => v.category).sum ≤ 8) (hdg : decode cc pc = .ok (.invokestatic idx, 3)) (isC isR : List Nat) (hnC : va_nd isC = true) (hC : isC.map (fun i => ws[i]?) = wc.map some) (hRr : isR.map (fun i => ws[i]?) = wr.map some) (hnR : va_nd isR = true) (hdis : ∀ i ∈ isR, i ∉ isC) (hf : cells + rm.cells ≤ R.cells ∧ slots + rm.slots ≤ R.slots)
    (kk : ∀ (u : S) (ra : Nat) (H1 : Heap) (locs1 : List Loc), post u → Wd D A s (wr ++ w1 u ra) H1 locs1 → W p l e R s m args below meth c H1 locs1 (cells + rm.cells) (slots + rm.slots) Q (F0 m (pc + 3) ls (.ref ra :: rest))) : W p l e R s m args below meth c H locs cells slots Q (F0 m pc ls st0) := by
  obtain ⟨hFc, hpre⟩ := hw.give hX cx isC hnC hC
  have cx' := cx
  obtain ⟨hx, hb, hr, hlk, hml, hown, hts, hK, hA, hXs, -⟩ := cx'
  exact va_callr (va_runSN (As := As) (rest := rest) ⟨hx, hb, hml, hown, hts⟩ (hM H.size) ⟨va_cnB n hts (lw_meth hg) rfl rfl rfl hnl (hts _ hini) hd hR, hts _ hstat, trivial⟩ ⟨preW.blind hX, fun U hU hW => ⟨rfl, hpre U hU hW⟩⟩ rfl hlen hl hst (lv_room hWr) hdg hf) hw.2.2 (fun q _ h => hFc q h) hFc (fun u ra t H1 locs1 ht hvm hp hB hz hk hS1 => kk u ra H1 locs1 hp (hw.back isC isR hC hRr hnR hdis hFc ht hk hB hS1))
end XT4
