/-! BASE 7: super calls and dispatched calls with a world -/
set_option maxRecDepth 100000
section XT7
variable {p : Program} {l : Launch} {e : Env} {R : Room} {s : State} {m : MethodId} {args : Array Value} {below : List Frame} {meth : Method} {c : Code} {H : Heap} {locs : List Loc} {cells slots : Nat} {Q : State → Prop}
variable {cc : ByteArray} {pc : Nat} {ls : Array Slot} {rest : List Value} {X : XT} {D : va_G} {d : Nat → ClassId} {A : Nat → Prop} {a : Nat} {ws : va_W} {own nm : String} {nL : Nat} {ret : Option FieldType}
/-- a call of a superclass's method with a world: an int -/
theorem x_PIW {S : Type} {post : Int32 → S → Prop} {w1 : S → va_W} {wc wr : va_W} {y : MethodName} {bytes : ByteArray} {maxL idx n : Nat} {rt : Option FieldType} {rm : Room} {b : Nat} {C : String} {cC : ClassId} {st0 : List Value} (As : List Value) (hX : XOK X) (cx : Cx p s m args meth c X D d A own cc nL ret nm) (hw : Wd D A s ws H locs) (hl : ls.size = nL) (hat : ClassAt s C cC)
    (hM : MetI l y (ws_ y bytes maxL rt) rm (.ref b :: As) X D d wc post w1) (hg : GoodIn lw_all (va_wsSU own idx y (ws_ y bytes maxL rt))) (hd : y.name ≠ "<init>" ∧ (parseMethodDescriptor y.desc).map (fun d => d.parameters.length) = some n) (hR : rm.frames + 1 ≤ R.frames ∧ 8 + (maxL + 11) + rm.locals ≤ R.locals)
    (hrecv : ∃ cell : Cell, H[b]? = some cell ∧ cell.vm.isStatics = false ∧ s.vm.findClass C = some cell.cls) (hlen : As.length = n) (hst : st0 = As.reverse ++ .ref b :: rest) (hWr : (rest.map fun v => v.category).sum ≤ 8) (hdg : decode cc pc = .ok (.invokespecial idx, 3)) (isC isR : List Nat) (hnC : va_nd isC = true) (hC : isC.map (fun i => ws[i]?) = wc.map some) (hRr : isR.map (fun i => ws[i]?) = wr.map some) (hnR : va_nd isR = true) (hdis : ∀ i ∈ isR, i ∉ isC) (hf : cells + rm.cells ≤ R.cells ∧ slots + rm.slots ≤ R.slots)
    (kk : ∀ (r : Int32) (u : S) (H1 : Heap) (locs1 : List Loc), post r u → Wd D A s (wr ++ w1 u) H1 locs1 → W p l e R s m args below meth c H1 locs1 (cells + rm.cells) (slots + rm.slots) Q (F0 m (pc + 3) ls (.int r :: rest))) : W p l e R s m args below meth c H locs cells slots Q (F0 m pc ls st0) := by
  obtain ⟨hFc, hpre⟩ := hw.give hX cx isC hnC hC
  have cx' := cx
  obtain ⟨hx, hb, hr, hlk, hml, hown, hts, hK, hA, hXs, -⟩ := cx'
  exact va_calli (va_runSU hat (As := As) (rest := rest) ⟨hx, hb, hml, hown, hts⟩ (hM H.size) (va_cwSU n hts hg rfl rfl rfl hd hR) ⟨preW.blind hX, hrecv, fun U hU hW => ⟨rfl, hpre U hU hW⟩⟩ rfl hlen hl hst (lv_room hWr) hdg hf) hw.2.2 (fun q _ h => hFc q h) hFc (fun r u t H1 locs1 ht hvm hp hB hz hk hS1 => kk r u H1 locs1 hp (hw.back isC isR hC hRr hnR hdis hFc ht hk hB hS1))
/-- a dispatched virtual call with a world: an int -/
theorem x_UIW {S : Type} {post : Int32 → S → Prop} {w1 : S → va_W} {wc wr : va_W} {x y : MethodName} {bytes : ByteArray} {maxL idx n : Nat} {rt : Option FieldType} {rm : Room} {b : Nat} {C owner : String} {st0 : List Value} (As : List Value) (hX : XOK X) (cx : Cx p s m args meth c X D d A own cc nL ret nm) (hw : Wd D A s ws H locs) (hl : ls.size = nL)
    (hM : MetI l y (ws_ y bytes maxL rt) rm (.ref b :: As) X D d wc post w1) (hcw : va_CU R s args own C owner idx x y bytes maxL rt (ws_ y bytes maxL rt) rm rm.cells rm.slots n)
    (hrecv : ∃ cell : Cell, H[b]? = some cell ∧ cell.vm.isStatics = false ∧ s.vm.findClass C = some cell.cls) (hlen : As.length = n) (hst : st0 = As.reverse ++ .ref b :: rest) (hWr : (rest.map fun v => v.category).sum ≤ 8) (hdg : decode cc pc = .ok (.invokevirtual idx, 3)) (isC isR : List Nat) (hnC : va_nd isC = true) (hC : isC.map (fun i => ws[i]?) = wc.map some) (hRr : isR.map (fun i => ws[i]?) = wr.map some) (hnR : va_nd isR = true) (hdis : ∀ i ∈ isR, i ∉ isC) (hf : cells + rm.cells ≤ R.cells ∧ slots + rm.slots ≤ R.slots)
    (kk : ∀ (r : Int32) (u : S) (H1 : Heap) (locs1 : List Loc), post r u → Wd D A s (wr ++ w1 u) H1 locs1 → W p l e R s m args below meth c H1 locs1 (cells + rm.cells) (slots + rm.slots) Q (F0 m (pc + 3) ls (.int r :: rest))) : W p l e R s m args below meth c H locs cells slots Q (F0 m pc ls st0) := by
  obtain ⟨hFc, hpre⟩ := hw.give hX cx isC hnC hC
  have cx' := cx
  obtain ⟨hx, hb, hr, hlk, hml, hown, hts, hK, hA, hXs, -⟩ := cx'
  exact va_calli (va_runU (As := As) (rest := rest) ⟨hx, hb, hml, hown, hts⟩ (hM H.size) hcw ⟨preW.blind hX, hrecv, fun U hU hW => ⟨rfl, hpre U hU hW⟩⟩ rfl hlen hl hst (lv_room hWr) hdg hf) hw.2.2 (fun q _ h => hFc q h) hFc (fun r u t H1 locs1 ht hvm hp hB hz hk hS1 => kk r u H1 locs1 hp (hw.back isC isR hC hRr hnR hdis hFc ht hk hB hS1))
end XT7
