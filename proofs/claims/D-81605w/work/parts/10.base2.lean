/-! BASE 2: answers that are known addresses; calls of super; calls through List -/
set_option maxRecDepth 100000
/-- a contract whose answer is the cell r -/
def MetA {S : Type} (l : Launch) (y : MethodName) (wy : List Cond) (rm : Room) (av : List Value) (X : XT) (D : va_G) (d : Nat → ClassId) (ws : va_W) (r : Nat) (post : S → Prop) (w1 : S → va_W) : Prop :=
  ∀ sz : Nat, Met l y wy rm (va_Pc av (preW X D d ws sz)) (va_Qr post (fun u a t => a = r ∧ posW D (w1 u) (va_A ws sz) t) (va_A ws sz)) rm.cells rm.slots (va_A ws sz)
theorem MetA.of {S : Type} {l : Launch} {y : MethodName} {cc : ByteArray} {maxL : Nat} {ret : Option FieldType} {rm : Room} {av : List Value} {X : XT} {D : va_G} {d : Nat → ClassId} {ws : va_W} {r : Nat} {post : S → Prop} {w1 : S → va_W} (hy : plainName y.cls = true) (hn : (lg_sl av).length ≤ maxL)
    (body : ∀ (p : Program) (e : Env) (s : State) (m : MethodId) (below : List Frame) (meth : Method) (c : Code) (A : Nat → Prop), Cx p s m av.toArray meth c X D d A y.cls cc maxL ret y.name → Wd D A s ws s.heap [] → ∀ ls : Array Slot, lv_has ls maxL (lv_args 0 av) →
      W p l e rm s m av.toArray below meth c s.heap [] 0 0 (MQ below (va_Qr post (fun u a t => a = r ∧ posW D (w1 u) A t) A) av.toArray s rm.cells rm.slots A) (F0 m 0 ls [])) : MetA l y (ws_ y cc maxL ret) rm av X D d ws r post w1 := by
  intro sz
  refine Met.ofW (cc := cc) (maxL := maxL) (ret := ret) hy rfl ?_
  intro p e s m args below meth c s₁ Bd hml hv
  obtain ⟨rfl, hsz, hP, hK, hD0, hXs⟩ := hv
  have hts := atoms_spec (ws := ws_ y cc maxL ret) Bd.pre
  have hts : ∀ w ∈ lw_all, w.before _ s = true := fun w h => hts w (List.mem_cons_of_mem _ h)
  have hown : s.vm.findClass y.cls = some m.cls := findClass_of_methodNamed Bd.named
  have hnm : meth.name = y.name := (name_of_methodNamed Bd.named Bd.method).1
  subst hsz
  have hD := hD0.self (sz := s.heap.size)
  have hA : ∀ q : Nat, s.heap.size ≤ q → va_A ws s.heap.size q := fun q h => Or.inr h
  have hl := lv_entry av (n := maxL) hn
  rw [lg_entry_eq]
  exact body p e s m below meth c _ ⟨Bd.exec, Bd.bytes, Bd.returns, Bd.notSynchronized, hml, hown, hts, hK, hA, hXs, hnm⟩ ⟨hP, hD, va_S.rf⟩ _ hl
section XROWS2
variable {p : Program} {l : Launch} {e : Env} {R : Room} {s : State} {m : MethodId} {args : Array Value} {below : List Frame} {meth : Method} {c : Code} {H : Heap} {locs : List Loc} {cells slots : Nat} {Q : State → Prop}
variable {cc : ByteArray} {pc : Nat} {ls : Array Slot} {rest : List Value} {X : XT} {D : va_G} {d : Nat → ClassId} {A : Nat → Prop} {a : Nat} {ws : va_W} {own nm : String} {nL : Nat} {ret : Option FieldType}
theorem x_retA {S : Type} {post : S → Prop} {w1 : S → va_W} {mc ms : Nat} {rt : FieldType} (cx : Cx p s m args meth c X D d A own cc nL (some rt) nm) (hw : Wd D A s ws H locs) (hrt : (∃ n, rt = .object n) ∨ ∃ t, rt = .array t) (u : S) (hp : post u) (is : List Nat) (hi : va_nd is = true) (hs : is.map (fun i => ws[i]?) = (w1 u).map some) (hc : cells ≤ mc) (hsl : slots ≤ ms) (hdg : decode cc pc = .ok (.areturn, 1)) :
    W p l e R s m args below meth c H locs cells slots (MQ below (va_Qr post (fun u b t => b = a ∧ posW D (w1 u) A t) A) args s mc ms A) (F0 m pc ls [.ref a]) := by
  obtain ⟨hx, hb, hr, hlk, -⟩ := cx
  have hw := hw.sub is hi hs
  refine W.widen hc hsl ?_
  exact W.aret hx hb hr hrt (Or.inr ⟨a, rfl⟩) (fun t ht hW => ⟨⟨u, a, rfl, hp, rfl, by rw [ht]; exact hw.1, hw.2.1⟩, hw.2.2.F ht⟩) hw.2.2.2.2 hdg hlk

theorem x_VA {S : Type} {r : Nat} {post : S → Prop} {w1 : S → va_W} {wc wr : va_W} {y : MethodName} {bytes : ByteArray} {maxL idx n : Nat} {rt : Option FieldType} {rm : Room} {b : Nat} {C : String} {st0 : List Value} (As : List Value) (hX : XOK X) (cx : Cx p s m args meth c X D d A own cc nL ret nm) (hw : Wd D A s ws H locs) (hl : ls.size = nL)
    (hM : MetA l y (ws_ y bytes maxL rt) rm (.ref b :: As) X D d wc r post w1) (hg : GoodIn lw_all (wsV own idx C y (ws_ y bytes maxL rt))) (hd : y.cls = C ∧ y.cls ≠ "java/lang/invoke/MethodHandle" ∧ y.cls ≠ "java/lang/invoke/VarHandle" ∧ (parseMethodDescriptor y.desc).map (fun d => d.parameters.length) = some n) (hR : rm.frames + 1 ≤ R.frames ∧ 8 + (maxL + 11) + rm.locals ≤ R.locals)
    (hrecv : ∃ cell : Cell, H[b]? = some cell ∧ cell.vm.isStatics = false ∧ s.vm.findClass C = some cell.cls) (hlen : As.length = n) (hst : st0 = As.reverse ++ .ref b :: rest) (hWr : (rest.map fun v => v.category).sum ≤ 8) (hdg : decode cc pc = .ok (.invokevirtual idx, 3)) (isC isR : List Nat) (hnC : va_nd isC = true) (hC : isC.map (fun i => ws[i]?) = wc.map some) (hRr : isR.map (fun i => ws[i]?) = wr.map some) (hnR : va_nd isR = true) (hdis : ∀ i ∈ isR, i ∉ isC) (hf : cells + rm.cells ≤ R.cells ∧ slots + rm.slots ≤ R.slots)
    (kk : ∀ (u : S) (H1 : Heap) (locs1 : List Loc), post u → Wd D A s (wr ++ w1 u) H1 locs1 → W p l e R s m args below meth c H1 locs1 (cells + rm.cells) (slots + rm.slots) Q (F0 m (pc + 3) ls (.ref r :: rest))) : W p l e R s m args below meth c H locs cells slots Q (F0 m pc ls st0) := by
  obtain ⟨hFc, hpre⟩ := hw.give hX cx isC hnC hC
  have cx' := cx
  obtain ⟨hx, hb, hr, hlk, hml, hown, hts, hK, hA, hXs, -⟩ := cx'
  exact va_callr (va_runV (As := As) (rest := rest) ⟨hx, hb, hml, hown, hts⟩ (hM H.size) (cwV n hts hg rfl rfl rfl hd hR) ⟨preW.blind hX, hrecv, fun U hU hW => ⟨rfl, hpre U hU hW⟩⟩ rfl hlen hl hst (lv_room hWr) hdg hf) hw.2.2 (fun q _ h => hFc q h) hFc (fun u ra t H1 locs1 ht hvm hp hB hz hk hS1 => by obtain ⟨e1, hB⟩ := hB; subst e1; exact kk u H1 locs1 hp (hw.back isC isR hC hRr hnR hdis hFc ht hk hB hS1))
theorem x_SA {S : Type} {r : Nat} {post : S → Prop} {w1 : S → va_W} {wc wr : va_W} {y : MethodName} {bytes : ByteArray} {maxL idx n : Nat} {rt : Option FieldType} {rm : Room} {st0 : List Value} (As : List Value) (hX : XOK X) (cx : Cx p s m args meth c X D d A own cc nL ret nm) (hw : Wd D A s ws H locs) (hl : ls.size = nL)
    (hM : MetA l y (ws_ y bytes maxL rt) rm As X D d wc r post w1) (hg : GoodIn lw_all (va_wsS own idx y (ws_ y bytes maxL rt))) (hd : y.cls ≠ "java/lang/invoke/MethodHandle" ∧ y.cls ≠ "java/lang/invoke/VarHandle" ∧ (parseMethodDescriptor y.desc).map (fun d => d.parameters.length) = some n) (hR : rm.frames + 1 ≤ R.frames ∧ 8 + (maxL + 11) + rm.locals ≤ R.locals)
    (hlen : As.length = n) (hst : st0 = As.reverse ++ rest) (hWr : (rest.map fun v => v.category).sum ≤ 8) (hdg : decode cc pc = .ok (.invokestatic idx, 3)) (isC isR : List Nat) (hnC : va_nd isC = true) (hC : isC.map (fun i => ws[i]?) = wc.map some) (hRr : isR.map (fun i => ws[i]?) = wr.map some) (hnR : va_nd isR = true) (hdis : ∀ i ∈ isR, i ∉ isC) (hf : cells + rm.cells ≤ R.cells ∧ slots + rm.slots ≤ R.slots)
    (kk : ∀ (u : S) (H1 : Heap) (locs1 : List Loc), post u → Wd D A s (wr ++ w1 u) H1 locs1 → W p l e R s m args below meth c H1 locs1 (cells + rm.cells) (slots + rm.slots) Q (F0 m (pc + 3) ls (.ref r :: rest))) : W p l e R s m args below meth c H locs cells slots Q (F0 m pc ls st0) := by
  obtain ⟨hFc, hpre⟩ := hw.give hX cx isC hnC hC
  have cx' := cx
  obtain ⟨hx, hb, hr, hlk, hml, hown, hts, hK, hA, hXs, -⟩ := cx'
  exact va_callr (va_runS (As := As) (rest := rest) ⟨hx, hb, hml, hown, hts⟩ (hM H.size) (va_cwS n hts hg rfl rfl rfl hd hR) ⟨preW.blind hX, fun U hU hW => ⟨rfl, hpre U hU hW⟩⟩ rfl hlen hl hst (lv_room hWr) hdg hf) hw.2.2 (fun q _ h => hFc q h) hFc (fun u ra t H1 locs1 ht hvm hp hB hz hk hS1 => by obtain ⟨e1, hB⟩ := hB; subst e1; exact kk u H1 locs1 hp (hw.back isC isR hC hRr hnR hdis hFc ht hk hB hS1))
/-- super.m(..), no world -/
theorem x_PI0 {S : Type} {post : Int32 → S → Prop} {w1 : S → va_W} {y : MethodName} {bytes : ByteArray} {maxL idx n : Nat} {rt : Option FieldType} {rm : Room} {b : Nat} {C : String} {cC : ClassId} {st0 : List Value} (As : List Value) (hX : XOK X) (cx : Cx p s m args meth c X D d A own cc nL ret nm) (hw : Wd D A s ws H locs) (hl : ls.size = nL) (hat : ClassAt s C cC)
    (hM : MetI l y (ws_ y bytes maxL rt) rm (.ref b :: As) X D d [] post w1) (hg : GoodIn lw_all (va_wsSU own idx y (ws_ y bytes maxL rt))) (hd : y.name ≠ "<init>" ∧ (parseMethodDescriptor y.desc).map (fun d => d.parameters.length) = some n) (hR : rm.frames + 1 ≤ R.frames ∧ 8 + (maxL + 11) + rm.locals ≤ R.locals)
    (hrecv : ∃ cell : Cell, H[b]? = some cell ∧ cell.vm.isStatics = false ∧ s.vm.findClass C = some cell.cls) (hlen : As.length = n) (hst : st0 = As.reverse ++ .ref b :: rest) (hWr : (rest.map fun v => v.category).sum ≤ 8) (hdg : decode cc pc = .ok (.invokespecial idx, 3)) (hf : cells + rm.cells ≤ R.cells ∧ slots + rm.slots ≤ R.slots)
    (kk : ∀ (r : Int32) (u : S) (H1 : Heap) (locs1 : List Loc), post r u → Wd D A s ws H1 locs1 → W p l e R s m args below meth c H1 locs1 (cells + rm.cells) (slots + rm.slots) Q (F0 m (pc + 3) ls (.int r :: rest))) : W p l e R s m args below meth c H locs cells slots Q (F0 m pc ls st0) := by
  obtain ⟨hFc, hpre⟩ := hw.give (wc := []) hX cx [] rfl rfl
  have cx' := cx
  obtain ⟨hx, hb, hr, hlk, hml, hown, hts, hK, hA, hXs, -⟩ := cx'
  exact va_calli (va_runSU hat (As := As) (rest := rest) ⟨hx, hb, hml, hown, hts⟩ (hM H.size) (va_cwSU n hts hg rfl rfl rfl hd hR) ⟨preW.blind hX, hrecv, fun U hU hW => ⟨rfl, hpre U hU hW⟩⟩ rfl hlen hl hst (lv_room hWr) hdg hf) hw.2.2 (fun q _ h => hFc q h) hFc (fun r u t H1 locs1 ht hvm hp hB hz hk hS1 => kk r u H1 locs1 hp (hw.back0 hk hS1))
/-- a call through List of a known ArrayList: an int, no world -/
theorem x_FI0 {S : Type} {post : Int32 → S → Prop} {w1 : S → va_W} {x y : MethodName} {bytes : ByteArray} {maxL idx cnt n : Nat} {rt : Option FieldType} {rm : Room} {b : Nat} {C : String} {cC : ClassId} {st0 : List Value} (As : List Value) (hX : XOK X) (cx : Cx p s m args meth c X D d A own cc nL ret nm) (hw : Wd D A s ws H locs) (hl : ls.size = nL) (hat : ClassAt s C cC)
    (hM : MetI l y (ws_ y bytes maxL rt) rm (.ref b :: As) X D d [] post w1) (hg : GoodIn lw_all (va_wsF own idx C x y (ws_ y bytes maxL rt))) (hF : va_Fw C x y s) (hd : x.cls ≠ "java/lang/invoke/MethodHandle" ∧ x.cls ≠ "java/lang/invoke/VarHandle" ∧ (parseMethodDescriptor x.desc).map (fun d => d.parameters.length) = some n) (hR : rm.frames + 1 ≤ R.frames ∧ 8 + (maxL + 11) + rm.locals ≤ R.locals)
    (hrecv : ∃ cell : Cell, H[b]? = some cell ∧ cell.vm.isStatics = false ∧ s.vm.findClass C = some cell.cls) (hlen : As.length = n) (hst : st0 = As.reverse ++ .ref b :: rest) (hWr : (rest.map fun v => v.category).sum ≤ 8) (hdg : decode cc pc = .ok (.invokeinterface idx cnt, 5)) (hf : cells + rm.cells ≤ R.cells ∧ slots + rm.slots ≤ R.slots)
    (kk : ∀ (r : Int32) (u : S) (H1 : Heap) (locs1 : List Loc), post r u → Wd D A s ws H1 locs1 → W p l e R s m args below meth c H1 locs1 (cells + rm.cells) (slots + rm.slots) Q (F0 m (pc + 5) ls (.int r :: rest))) : W p l e R s m args below meth c H locs cells slots Q (F0 m pc ls st0) := by
  obtain ⟨hFc, hpre⟩ := hw.give (wc := []) hX cx [] rfl rfl
  have cx' := cx
  obtain ⟨hx, hb, hr, hlk, hml, hown, hts, hK, hA, hXs, -⟩ := cx'
  exact va_callFi (va_runF hat (As := As) (rest := rest) ⟨hx, hb, hml, hown, hts⟩ (hM H.size) (va_cwF n hts hg rfl rfl rfl hF hd hR) ⟨preW.blind hX, hrecv, fun U hU hW => ⟨rfl, hpre U hU hW⟩⟩ rfl hlen hl hst (lv_room hWr) hdg hf) hw.2.2 (fun q _ h => hFc q h) hFc (fun r u t H1 locs1 ht hvm hp hB hz hk hS1 => kk r u H1 locs1 hp (hw.back0 hk hS1))
/-- the same, the answer a known cell -/
theorem x_FA0 {S : Type} {r : Nat} {post : S → Prop} {w1 : S → va_W} {x y : MethodName} {bytes : ByteArray} {maxL idx cnt n : Nat} {rt : Option FieldType} {rm : Room} {b : Nat} {C : String} {cC : ClassId} {st0 : List Value} (As : List Value) (hX : XOK X) (cx : Cx p s m args meth c X D d A own cc nL ret nm) (hw : Wd D A s ws H locs) (hl : ls.size = nL) (hat : ClassAt s C cC)
    (hM : MetA l y (ws_ y bytes maxL rt) rm (.ref b :: As) X D d [] r post w1) (hg : GoodIn lw_all (va_wsF own idx C x y (ws_ y bytes maxL rt))) (hF : va_Fw C x y s) (hd : x.cls ≠ "java/lang/invoke/MethodHandle" ∧ x.cls ≠ "java/lang/invoke/VarHandle" ∧ (parseMethodDescriptor x.desc).map (fun d => d.parameters.length) = some n) (hR : rm.frames + 1 ≤ R.frames ∧ 8 + (maxL + 11) + rm.locals ≤ R.locals)
    (hrecv : ∃ cell : Cell, H[b]? = some cell ∧ cell.vm.isStatics = false ∧ s.vm.findClass C = some cell.cls) (hlen : As.length = n) (hst : st0 = As.reverse ++ .ref b :: rest) (hWr : (rest.map fun v => v.category).sum ≤ 8) (hdg : decode cc pc = .ok (.invokeinterface idx cnt, 5)) (hf : cells + rm.cells ≤ R.cells ∧ slots + rm.slots ≤ R.slots)
    (kk : ∀ (u : S) (H1 : Heap) (locs1 : List Loc), post u → Wd D A s ws H1 locs1 → W p l e R s m args below meth c H1 locs1 (cells + rm.cells) (slots + rm.slots) Q (F0 m (pc + 5) ls (.ref r :: rest))) : W p l e R s m args below meth c H locs cells slots Q (F0 m pc ls st0) := by
  obtain ⟨hFc, hpre⟩ := hw.give (wc := []) hX cx [] rfl rfl
  have cx' := cx
  obtain ⟨hx, hb, hr, hlk, hml, hown, hts, hK, hA, hXs, -⟩ := cx'
  exact va_callFr (va_runF hat (As := As) (rest := rest) ⟨hx, hb, hml, hown, hts⟩ (hM H.size) (va_cwF n hts hg rfl rfl rfl hF hd hR) ⟨preW.blind hX, hrecv, fun U hU hW => ⟨rfl, hpre U hU hW⟩⟩ rfl hlen hl hst (lv_room hWr) hdg hf) hw.2.2 (fun q _ h => hFc q h) hFc (fun u ra t H1 locs1 ht hvm hp hB hz hk hS1 => by obtain ⟨e1, hB⟩ := hB; subst e1; exact kk u H1 locs1 hp (hw.back0 hk hS1))
end XROWS2
/-- words of the tables that ride in no list: out of the start behind -/
theorem Tb.Fw {C : String} {x y : MethodName} {U : State} (hx : x.cls ≠ "java/lang/invoke/MethodHandle" ∧ x.cls ≠ "java/lang/invoke/VarHandle") (h1 : Cond.declares x ∈ lw_tbl) (h2 : Cond.interfaceMethod x.cls x.cls x.name x.desc ∈ lw_tbl) (h3 : Cond.publicMethod y ∈ lw_tbl) (h4 : Cond.unhidden C x.name x.desc ∈ lw_tbl) (h5 : Cond.castable C x.cls ∈ lw_tbl) (hT : Tb U) : va_Fw C x y U := by
  obtain ⟨s0, b0, hW, hts, -⟩ := hT
  exact va_Fw.moved hx hW.alike (va_Fw.of (hts _ h1) (hts _ h2) (hts _ h3) (hts _ h4) (hts _ h5))
theorem Tb.decl {x : MethodName} {U : State} (h1 : Cond.declares x ∈ lw_tbl) (hT : Tb U) : va_Nw (.declares x) U := by
  obtain ⟨s0, b0, hW, hts, -⟩ := hT
  exact va_Nw.warmD hW (va_Nw.of rfl (hts _ h1))
theorem Tb.cast {C T : String} {U : State} (h1 : Cond.castable C T ∈ lw_tbl) (hT : Tb U) : va_Nw (.castable C T) U := by
  obtain ⟨s0, b0, hW, hts, -⟩ := hT
  exact va_Nw.warmC hW (va_Nw.of rfl (hts _ h1))
theorem Tb.nestM {a : String} {i : Nat} {x : MethodName} {h : String} {U : State} (h1 : Cond.methodLinkNest a i x h ∈ lw_tbl) (hT : Tb U) : va_Nw (.methodLinkNest a i x h) U := by
  obtain ⟨s0, b0, hW, hts, -⟩ := hT
  exact va_Nw.warmM hW (va_Nw.of rfl (hts _ h1))
theorem Tb.nestF {a : String} {i : Nat} {b n dd h : String} {U : State} (h1 : Cond.fieldLinkNest a i b n dd h ∈ lw_tbl) (hT : Tb U) : va_Nw (.fieldLinkNest a i b n dd h) U := by
  obtain ⟨s0, b0, hW, hts, -⟩ := hT
  exact va_Nw.warmF hW (va_Nw.of rfl (hts _ h1))
theorem Tb.over {C : String} {U : State} (h1 : Cond.arrayOver (.object C) ∈ lw_tbl) (hT : Tb U) : va_AO C U := by
  obtain ⟨s0, b0, hW, hts, -⟩ := hT
  exact va_AO.moved hW.alike (va_AO.of (hts _ h1))

theorem lw_SU {own : String} {idx : Nat} {y : MethodName} {b : ByteArray} {L : Nat} {r : Option FieldType} (h1 : Cond.methodLink own idx y ∈ lw_all) (h2 : Cond.sameMethod y.cls y.cls y.name y.desc ∈ lw_all) (h3 : Cond.superclass own y.cls ∈ lw_all) (h4 : Cond.instanceMethod y ∈ lw_all) (h5 : Cond.initialized y.cls ∈ lw_all) (h6 : Cond.code y b L r ∈ lw_all) : GoodIn lw_all (va_wsSU own idx y (ws_ y b L r)) := by
  refine lw_app ?_ (lw_meth h6)
  intro w hw
  simp only [List.mem_cons, List.not_mem_nil, or_false] at hw
  rcases hw with e | e | e | e | e <;> rw [e] <;> assumption
theorem lw_U {own C owner : String} {idx : Nat} {x y : MethodName} {b : ByteArray} {L : Nat} {r : Option FieldType} (h1 : Cond.methodLink own idx x ∈ lw_all) (h2 : Cond.sameMethod x.cls owner x.name x.desc ∈ lw_all) (h3 : Cond.selects C x y ∈ lw_all) (h4 : Cond.instanceMethod y ∈ lw_all) (h5 : Cond.initialized y.cls ∈ lw_all) (h6 : Cond.code y b L r ∈ lw_all) : GoodIn lw_all (va_wsU own idx C owner x y (ws_ y b L r)) := by
  refine lw_app ?_ (lw_meth h6)
  intro w hw
  simp only [List.mem_cons, List.not_mem_nil, or_false] at hw
  rcases hw with e | e | e | e | e <;> rw [e] <;> assumption
theorem lw_O {own C owner : String} {idx : Nat} {x y : MethodName} {b : ByteArray} {L : Nat} {r : Option FieldType} (h1 : Cond.methodLink own idx x ∈ lw_all) (h2 : Cond.sameMethod x.cls owner x.name x.desc ∈ lw_all) (h0 : Cond.instanceMethod ⟨owner, x.name, x.desc⟩ ∈ lw_all) (h3 : Cond.selects C x y ∈ lw_all) (h4 : Cond.instanceMethod y ∈ lw_all) (h5 : Cond.initialized y.cls ∈ lw_all) (h6 : Cond.code y b L r ∈ lw_all) : GoodIn lw_all (va_wsO own idx C owner x y (ws_ y b L r)) := by
  refine lw_app ?_ (lw_meth h6)
  intro w hw
  simp only [List.mem_cons, List.not_mem_nil, or_false] at hw
  rcases hw with e | e | e | e | e | e <;> rw [e] <;> assumption
theorem lw_F {own C : String} {idx : Nat} {x y : MethodName} {b : ByteArray} {L : Nat} {r : Option FieldType} (h1 : Cond.methodLink own idx x ∈ lw_all) (h3 : Cond.selects C x y ∈ lw_all) (h4 : Cond.instanceMethod y ∈ lw_all) (h5 : Cond.initialized y.cls ∈ lw_all) (h6 : Cond.code y b L r ∈ lw_all) : GoodIn lw_all (va_wsF own idx C x y (ws_ y b L r)) := by
  refine lw_app ?_ (lw_meth h6)
  intro w hw
  simp only [List.mem_cons, List.not_mem_nil, or_false] at hw
  rcases hw with e | e | e | e <;> rw [e] <;> assumption
