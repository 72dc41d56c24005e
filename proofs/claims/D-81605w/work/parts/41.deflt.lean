/-! BASE 10: a superclass's default method, called by super -/
set_option maxRecDepth 100000
/-- the i-th superclass -/
def scN (vm : Vm) : Nat → ClassId → Option ClassId
  | 0, c => some c
  | i + 1, c => (vm.classes[c]?.bind (·.super)).bind (scN vm i)
theorem lk_mono {vm : Vm} {name desc : String} {m : MethodId} : ∀ (n k : Nat) (c : ClassId), lookupInSuperclasses vm name desc n c = some m → n ≤ k → lookupInSuperclasses vm name desc k c = some m := by
  intro n
  induction n with
  | zero => intro k c h _; simp [lookupInSuperclasses] at h
  | succ n ih =>
    intro k c h hle
    cases k with
    | zero => omega
    | succ k =>
      unfold lookupInSuperclasses at h ⊢
      cases hk : vm.classes[c]? with
      | none => simp [hk] at h
      | some x =>
        simp only [hk, Option.bind_eq_bind, Option.bind_some] at h ⊢
        cases hf : x.findMethod name desc with
        | some i => simp only [hf] at h ⊢; exact h
        | none =>
          simp only [hf] at h ⊢
          cases hs : x.super with
          | none => simp [hs] at h
          | some q =>
            simp only [hs, Option.bind_some] at h ⊢
            exact ih k q h (by omega)
theorem lk_step {vm : Vm} {name desc : String} : ∀ (i k : Nat) (c : ClassId), lookupInSuperclasses vm name desc i c = none → lookupInSuperclasses vm name desc (i + k) c = (scN vm i c).bind (lookupInSuperclasses vm name desc k) := by
  intro i
  induction i with
  | zero => intro k c _; simp [scN]
  | succ i ih =>
    intro k c h
    rw [show i + 1 + k = (i + k) + 1 by omega]
    unfold lookupInSuperclasses at h ⊢
    unfold scN
    cases hk : vm.classes[c]? with
    | none => simp
    | some x =>
      simp only [hk, Option.bind_eq_bind, Option.bind_some] at h ⊢
      cases hf : x.findMethod name desc with
      | some j => simp [hf] at h
      | none =>
        simp only [hf] at h ⊢
        cases hs : x.super with
        | none => simp
        | some q =>
          simp only [hs, Option.bind_some] at h ⊢
          exact ih k q h
theorem lk_lt {vm : Vm} {name desc : String} {m : MethodId} {k : Nat} {c : ClassId} (h : lookupInSuperclasses vm name desc k c = some m) : c < vm.classes.size := by
  cases k with
  | zero => simp [lookupInSuperclasses] at h
  | succ k =>
    unfold lookupInSuperclasses at h
    cases hk : vm.classes[c]? with
    | none => simp [hk] at h
    | some x => exact (Array.getElem?_eq_some_iff.mp hk).1
/-- a search that finds, finds within as many steps as there are classes -/
theorem lk_size {vm : Vm} {name desc : String} {m : MethodId} {c : ClassId} : ∀ (k : Nat), lookupInSuperclasses vm name desc k c = some m → lookupInSuperclasses vm name desc vm.classes.size c = some m := by
  intro k
  induction k using Nat.strongRecOn with
  | ind k ih =>
    intro h
    by_cases hk : k ≤ vm.classes.size
    · exact lk_mono k _ c h hk
    · by_cases hj : ∃ j, j < k ∧ lookupInSuperclasses vm name desc j c = some m
      · obtain ⟨j, h1, h2⟩ := hj
        exact ih j h1 h2
      · exfalso
        have hnone : ∀ j, j < k → lookupInSuperclasses vm name desc j c = none := by
          intro j hjk
          cases hl : lookupInSuperclasses vm name desc j c with
          | none => rfl
          | some m' =>
            have := lk_mono j k c hl (by omega)
            rw [h] at this
            cases this
            exact absurd ⟨j, hjk, hl⟩ hj
        have hx : ∀ i, i < k → ∃ x, scN vm i c = some x ∧ lookupInSuperclasses vm name desc (k - i) x = some m := by
          intro i hi
          have h1 := lk_step (vm := vm) (name := name) (desc := desc) i (k - i) c (hnone i hi)
          rw [show i + (k - i) = k by omega, h] at h1
          cases hs : scN vm i c with
          | none => rw [hs] at h1; cases h1
          | some x => rw [hs] at h1; exact ⟨x, rfl, h1.symm⟩
        have hdist : ∀ a b, a < b → b < k → scN vm a c ≠ scN vm b c := by
          intro a b hab hb e
          obtain ⟨x, h1, h2⟩ := hx b hb
          rw [h1] at e
          have h3 := lk_step (vm := vm) (name := name) (desc := desc) a (k - b) c (hnone a (by omega))
          rw [e, Option.bind_some, h2, hnone _ (by omega)] at h3
          cases h3
        have hlist : ((List.range k).map (fun i => (scN vm i c).getD 0)).Nodup := by
          refine List.pairwise_map.mpr (List.Pairwise.imp_of_mem (R := (· < ·)) ?_ List.pairwise_lt_range)
          intro a b ha hb hab e
          have hb' := List.mem_range.mp hb
          obtain ⟨x, h1, -⟩ := hx a (by omega)
          obtain ⟨y, h2, -⟩ := hx b hb'
          rw [h1, h2] at e
          refine hdist a b hab hb' ?_
          rw [h1, h2]
          exact congrArg some e
        have hlen := List.Nodup.length_le_of_subset (l₂ := List.range vm.classes.size) hlist (by
          intro x hxm
          obtain ⟨i, h1, h2⟩ := List.mem_map.mp hxm
          obtain ⟨y, h3, h4⟩ := hx i (List.mem_range.mp h1)
          rw [h3] at h2
          have h2 : y = x := h2
          rw [← h2]
          exact List.mem_range.mpr (lk_lt h4))
        simp only [List.length_map, List.length_range] at hlen
        omega
theorem lk_none {vm : Vm} {name desc : String} : ∀ (n : Nat) (c : ClassId), lookupInSuperclasses vm name desc (vm.classes.size + 1) c = none → ownMethod vm name desc c = none ∧ (vm.superclassesAux n c).filterMap (ownMethod vm name desc) = [] := by
  have hown : ∀ c, lookupInSuperclasses vm name desc (vm.classes.size + 1) c = none → ownMethod vm name desc c = none := by
    intro c h
    unfold lookupInSuperclasses at h
    cases hk : vm.classes[c]? with
    | none => simp [ownMethod, hk]
    | some x =>
      simp only [hk, Option.bind_eq_bind, Option.bind_some] at h
      cases hf : x.findMethod name desc with
      | some i => simp [hf] at h
      | none => simp [ownMethod, hk, hf]
  have hnext : ∀ c x q, lookupInSuperclasses vm name desc (vm.classes.size + 1) c = none → vm.classes[c]? = some x → x.super = some q → lookupInSuperclasses vm name desc (vm.classes.size + 1) q = none := by
    intro c x q h hk hs
    unfold lookupInSuperclasses at h
    simp only [hk, Option.bind_eq_bind, Option.bind_some] at h
    cases hf : x.findMethod name desc with
    | some i => simp [hf] at h
    | none =>
      simp only [hf, hs, Option.bind_some] at h
      cases hl : lookupInSuperclasses vm name desc (vm.classes.size + 1) q with
      | none => rfl
      | some m => rw [lk_size _ hl] at h; cases h
  intro n
  induction n with
  | zero => intro c h; exact ⟨hown c h, by simp [Vm.superclassesAux]⟩
  | succ n ih =>
    intro c h
    refine ⟨hown c h, ?_⟩
    cases hk : vm.classes[c]? with
    | none => simp [Vm.superclassesAux, hk]
    | some x =>
      cases hs : x.super with
      | none => simp [Vm.superclassesAux, hk, hs]
      | some q =>
        have haux : vm.superclassesAux (n + 1) c = q :: vm.superclassesAux n q := by simp [Vm.superclassesAux, hk, hs]
        obtain ⟨h1, h2⟩ := ih q (hnext c x q h hk hs)
        rw [haux, List.filterMap_cons, h1]
        exact h2
theorem sel_none {vm : Vm} {mR : MethodId} {name desc : String} : ∀ (n : Nat) (c : ClassId), lookupInSuperclasses vm name desc n c = none → selectInSuperclasses vm mR name desc n c = none := by
  intro n
  induction n with
  | zero => intro c _; rfl
  | succ n ih =>
    intro c h
    unfold lookupInSuperclasses at h
    unfold selectInSuperclasses
    cases hk : vm.classes[c]? with
    | none => simp
    | some x =>
      simp only [hk, Option.bind_eq_bind, Option.bind_some] at h ⊢
      cases hf : x.findMethod name desc with
      | some i => simp [hf] at h
      | none =>
        simp only [hf] at h
        cases hs : x.super with
        | none => simp [hf]
        | some q =>
          simp only [hs, Option.bind_some] at h
          simp [hf, ih q h]
theorem lookupSpecial_default {vm : Vm} {c : ClassId} {k : Class} {name desc : String} {r0 : MethodId} {rm : Method} (hk : vm.classes[c]? = some k) (hni : k.isInterface = false) (hr : vm.method? r0 = some rm) (hn : rm.name = name) (hd : rm.desc = desc) (hst : rm.isStatic = false) (hpr : rm.isPrivate = false) (hitf : (vm.classes[r0.cls]?).any (·.isInterface) = true)
    (hup : vm.lookupUp c name desc = some r0) (hsel : selectMethod {} vm c r0 = .method r0) : lookupSpecial vm c name desc = .method r0 := by
  cases hL : lookupInSuperclasses vm name desc (vm.classes.size + 1) c with
  | some x =>
    have hx : x = r0 := by simpa [Vm.lookupUp, hL] using hup
    subst hx
    exact lookupSpecial_of_superclasses hk hni hL hr hst
  | none =>
    obtain ⟨h1, h2⟩ := lk_none (vm.classes.size + 1) c hL
    have h3 : superclassMethods vm c name desc = [] := h2
    have h4 : (vm.classes[c]?.bind (·.findMethod name desc)).map (fun i => (⟨c, i⟩ : MethodId)) = none := h1
    have hsn := sel_none (mR := r0) _ c hL
    unfold selectMethod at hsel
    simp only [hr, hpr, hn, hd, Bool.false_eq_true, if_false, hitf, Bool.not_true, Bool.and_false, hsn] at hsel
    unfold lookupSpecial
    simp only [h3, h4, List.filter_nil, Option.toList_none, List.append_nil, List.find?_nil]
    split at hsel
    · cases hsel
    · generalize (maximallySpecific vm c name desc).filter (fun m => (vm.method? m).any (!·.isAbstract)) = F at hsel ⊢
      exact hsel
/-- the facts of the default method: mark of Marked, called through Dish -/
def DflW (U : State) : Prop := va_Nw (.methodLink "DishLift$Hot" 29 ⟨"DishLift$Dish", "mark", "(LDishLift$Trail;LDishLift$House;)I"⟩) U ∧ va_Nw (.methodLink "DishLift" 400 ⟨"DishLift$Dish", "mark", "(LDishLift$Trail;LDishLift$House;)I"⟩) U ∧ va_Nw (.methodLink "DishLift$Cold" 24 ⟨"DishLift$Dish", "mark", "(LDishLift$Trail;LDishLift$House;)I"⟩) U ∧ va_Nw (.sameMethod "DishLift$Dish" "DishLift$Marked" "mark" "(LDishLift$Trail;LDishLift$House;)I") U ∧ ∀ A : Array Value, (Cond.landsInDefault "DishLift$Dish" ⟨"DishLift$Dish", "mark", "(LDishLift$Trail;LDishLift$House;)I"⟩ ⟨"DishLift$Marked", "mark", "(LDishLift$Trail;LDishLift$House;)I"⟩).before A U = true
theorem bL {a b : Cond} {A : Array Value} {s : State} (h : (Cond.and a b).before A s = true) : a.before A s = true := by
  rw [Cond.before_and, Bool.and_eq_true] at h
  exact h.1
theorem bR {a b : Cond} {A : Array Value} {s : State} (h : (Cond.and a b).before A s = true) : b.before A s = true := by
  rw [Cond.before_and, Bool.and_eq_true] at h
  exact h.2
theorem Tb.dfl {U : State} (hT : Tb U) : DflW U := by
  obtain ⟨s0, b0, hW, -, hn, -⟩ := hT
  have hn : narrow_1.before #[Value.ref b0] s0 = true := bR hn
  have move : ∀ {w : Cond}, (w.onTables && w.keeps) = true → w.before #[Value.ref b0] s0 = true → va_Nw w U := fun hc h => word_at hW (Or.inl hc) h
  have land : ∀ {C : String} {x y : MethodName}, (Cond.landsInDefault C x y).before #[Value.ref b0] s0 = true → ∀ A : Array Value, (Cond.landsInDefault C x y).before A U = true := by
    intro C x y h A
    have h1 : (Cond.landsInDefault C x y).before #[Value.ref b0] (s0.setVm U.vm) = true := (Cond.landsInDefault_setVm hW.alike (State.methodFound?_setVm hW.alike _ _ _)).trans h
    exact h1
  exact ⟨move rfl (bL (bL (bL (bL (bL (bL (bL (bL (bL hn))))))))), move rfl (bL (bR (bR (bL (bL (bL (bL (bL (bL (bL (bL hn))))))))))), move rfl (bL (bR (bR (bR (bL (bL (bL (bL (bL (bL (bL (bL hn)))))))))))), move rfl (bL (bR (bL (bL (bL (bL (bL (bL (bL (bL hn)))))))))), land (bR (bR (bR (bR (bR (bR (bR (bR (bR hn)))))))))⟩
section XD10
variable {p : Program} {l : Launch} {e : Env} {R : Room} {s : State} {m : MethodId} {args : Array Value} {below : List Frame} {meth : Method} {c : Code} {H : Heap} {locs : List Loc} {cells slots : Nat} {Q : State → Prop}
theorem xd_callD {T : State} (X : Stand p l e R s m args below meth c T locs cells slots) (hexec : p.tables.exec = Jvm.exec) {own : String} {index : Nat} {x y : MethodName} {bytes : ByteArray} {maxL : Nat} {ret : Option FieldType}
    (hown : s.vm.findClass own = some m.cls) (hlink : (Cond.methodLink own index x).before args s = true) (hsame : (Cond.sameMethod x.cls y.cls x.name x.desc).before args s = true) (hxn : y.name = x.name) (hxd : y.desc = x.desc) (hsup : (Cond.superclass own x.cls).before args s = true)
    (hinst : (Cond.instanceMethod y).before args s = true) (hcode : (Cond.code y bytes maxL ret).before args s = true) (hno : x.name ≠ "<init>") (hland : (Cond.landsInDefault x.cls x y).before args s = true)
    {W : Nat} {Pre : Pt → Array Value → Prop} {Post : Pt → Array Value → Option Value → Pt → Prop} (hK : Back l R p e below s args y 3 W Pre Post)
    {b : Addr} {cellB : Cell} {kB : Class} (hcell : T.heap[b]? = some cellB) (hobj : cellB.vm.isStatics = false) (hkB : s.vm.classes[cellB.cls]? = some kB)
    {g : JFrame} (hg : g.method = m) (hsize : g.locals.size = c.maxLocals) {argsL rest : List Value} (hlen : ∀ sig, parseMethodDescriptor y.desc = some sig → argsL.length = sig.parameters.length)
    (hstack : g.stack = argsL.reverse ++ .ref b :: rest) (hW : 2 * g.monitorRoom + (rest.map fun v => v.category).sum ≤ W) (hdg : decode c.code g.pc = .ok (.invokespecial index, 3))
    (hpre : ∀ vm₁, s.WarmedH vm₁ → Pre ⟨T.setVm vm₁, locs, cells, slots⟩ (Value.ref b :: argsL).toArray) :
    ∃ (v : Option Value) (vm₁ : Vm) (B : Pt), s.WarmedH vm₁ ∧ Stand p l e R s m args below meth c B.U B.locs B.cells B.slots ∧ Post ⟨T.setVm vm₁, locs, cells, slots⟩ (Value.ref b :: argsL).toArray v B ∧
      ∀ target, Steps p.tables e below (B.U.setTop { g with pc := g.pc + 3, stack := v.toList ++ rest }) target → Steps p.tables e below (T.setTop g) target := by
  obtain ⟨mk, methM, hnamed, hmethM, hstM, habM⟩ := Cond.instanceMethod_spec hinst
  obtain ⟨methM', cM, hmethM', -, -, -, -, -, -, hsigM⟩ := Cond.code_spec hnamed hcode
  cases hmethM.symm.trans hmethM'
  obtain ⟨ps, dk, kp, hps, hdk, hkp, hsuper, -, -, hnid⟩ := Cond.superclass_spec hown hsup
  have hpl : e.platform.magicAccessors = ({} : Platform).magicAccessors := by rw [X.admits.platform]
  obtain ⟨cn, ck, r1, hcn, hck, hni, hf, hn1⟩ := Cond.sameMethod_found hsame
  have hn2 : s.methodNamed? ⟨y.cls, x.name, x.desc⟩ = some mk := by rw [← hxn, ← hxd]; exact hnamed
  cases hn2.symm.trans hn1
  cases hps.symm.trans hcn
  obtain ⟨ci, hl, hright⟩ := Cond.methodLink_specUp hown hcn hck hni hf hlink e.platform hpl (by rw [X.admits.platform])
  obtain ⟨kr, hkr, -⟩ := className_of_methodNamed hn1
  obtain ⟨hrn, hrd⟩ := name_of_methodNamed hn1 hmethM
  obtain ⟨dk₀, cfile, nt, _, _, ck₀, _, _, hd₀, hcf, hcp, -, -, -, hc₀, -, hpoly, -⟩ := hl.here
  cases hdk.symm.trans hd₀
  cases hck.symm.trans hc₀
  have hup := ((State.methodFound?_class hcn hck hni hpoly mk).mp hf).1
  have hl2 := hland
  simp only [Cond.before, Cond.holds, Cond.value, hcn, hf, hnamed, hmethM, Option.map_some, beq_iff_eq, Option.some.injEq] at hl2
  obtain ⟨hsel, hitf, hpr⟩ : selectMethod {} s.vm ps mk = .method mk ∧ (s.vm.classes[mk.cls]?).any (·.isInterface) = true ∧ methM.isPrivate = false := by
    split at hl2
    · rename_i m' hsel
      simp only [Bool.and_eq_true, decide_eq_true_eq, Bool.not_eq_true'] at hl2
      obtain ⟨⟨⟨⟨rfl, hi⟩, hp⟩, -⟩, -⟩ := hl2
      exact ⟨hsel, hi, hp⟩
    · cases hl2
  have hfound0 : lookupSpecial s.vm ps x.name x.desc = .method mk := lookupSpecial_default hck hni hmethM hrn hrd hstM hpr hitf hup hsel
  subst hg
  obtain ⟨vm₁, hW₁, hstep₁⟩ := Steps.invokeSuperColdArgs (tb := p.tables) (e := e) (s₀ := s) (U := T) (f := g) (args := argsL) (rest := rest) (a := b) (cell := cellB) (m := mk) X.here hexec hdg X.warmed hl hright hdk hcf hcp hmethM hck
    (by rw [hrn]; simp [hno]) hstM (by rw [hrn, hrd, hsuper]; simpa using hfound0) hnid hkr habM (hlen _ hsigM) hstack hcell (fun z h => by rw [h] at hobj; cases hobj) hkB
  have X₁ := X.noted hW₁
  obtain ⟨v, B, X', hpost, hsteps⟩ := hK g.method meth c ⟨T.setVm vm₁, locs, cells, slots⟩ { g with stack := rest } (.invokespecial index) mk (Value.ref b :: argsL).toArray X₁ rfl hsize hdg hW (X₁.named hnamed) (hpre vm₁ X₁.warmed)
  exact ⟨v, vm₁, B, X₁.warmed, X', hpost, fun target h => hstep₁ _ (by rw [doInvoke_state]; exact hsteps.trans h)⟩
variable {cc : ByteArray} {pc : Nat} {ls : Array Slot} {rest : List Value} {X : XT} {D : va_G} {d : Nat → ClassId} {A : Nat → Prop} {a : Nat} {ws : va_W} {own nm : String} {nL : Nat} {ret : Option FieldType}
/-- super.mark, the interface's own default -/
theorem x_DIW {S : Type} {post : Int32 → S → Prop} {w1 : S → va_W} {wc wr : va_W} {x y : MethodName} {bytes : ByteArray} {maxL idx n : Nat} {rt : Option FieldType} {rm : Room} {b : Nat} {C : String} {st0 : List Value} (As : List Value) (hX : XOK X) (cx : Cx p s m args meth c X D d A own cc nL ret nm) (hw : Wd D A s ws H locs) (hl : ls.size = nL)
    (hM : MetI l y (ws_ y bytes maxL rt) rm (.ref b :: As) X D d wc post w1) (hg : Cond.code y bytes maxL rt ∈ lw_all) (hini : Cond.initialized y.cls ∈ lw_all) (hinst : Cond.instanceMethod y ∈ lw_all) (hsup : Cond.superclass own x.cls ∈ lw_all) (hlink : va_Nw (.methodLink own idx x) s) (hsame : va_Nw (.sameMethod x.cls y.cls x.name x.desc) s) (hland : ∀ A : Array Value, (Cond.landsInDefault x.cls x y).before A s = true) (hxn : y.name = x.name) (hxd : y.desc = x.desc) (hno : x.name ≠ "<init>") (hd : (parseMethodDescriptor y.desc).map (fun d => d.parameters.length) = some n) (hR : rm.frames + 1 ≤ R.frames ∧ 8 + (maxL + 11) + rm.locals ≤ R.locals)
    (hrecv : ∃ cell : Cell, H[b]? = some cell ∧ cell.vm.isStatics = false ∧ s.vm.findClass C = some cell.cls) (hlen : As.length = n) (hst : st0 = As.reverse ++ .ref b :: rest) (hWr : (rest.map fun v => v.category).sum ≤ 8) (hdg : decode cc pc = .ok (.invokespecial idx, 3))
    (isC isR : List Nat) (hnC : va_nd isC = true) (hC : isC.map (fun i => ws[i]?) = wc.map some) (hRr : isR.map (fun i => ws[i]?) = wr.map some) (hnR : va_nd isR = true) (hdis : ∀ i ∈ isR, i ∉ isC) (hf : cells + rm.cells ≤ R.cells ∧ slots + rm.slots ≤ R.slots)
    (kk : ∀ (r : Int32) (u : S) (H1 : Heap) (locs1 : List Loc), post r u → Wd D A s (wr ++ w1 u) H1 locs1 → W p l e R s m args below meth c H1 locs1 (cells + rm.cells) (slots + rm.slots) Q (F0 m (pc + 3) ls (.int r :: rest))) : W p l e R s m args below meth c H locs cells slots Q (F0 m pc ls st0) := by
  obtain ⟨hFc, hpre⟩ := hw.give hX cx isC hnC hC
  have cx' := cx
  obtain ⟨hx, hb, hr, hlk, hml, hown, hts, hK, hA, hXs, -⟩ := cx'
  have hgood : GoodIn lw_all (ws_ y bytes maxL rt) := lw_meth hg
  have hKb : Back l R p e below s args y 3 8 (PreOf R rm.cells rm.slots (va_Pc (.ref b :: As) (preW X D d wc H.size))) (PostOf (va_Qi post (fun u t => posW D (w1 u) (va_A wc H.size) t) (va_A wc H.size)) rm.cells rm.slots (va_A wc H.size)) := back_of (bytes := bytes) (maxL := maxL) (ret := rt) (hM H.size) (preW.blind hX) rfl rfl hR.1 hR.2 (pay_in hts hgood) List.mem_cons_self (fun a' U hW => word_at hW (Or.inl (by first | rfl | simp [Cond.onTables, Cond.keeps, Cond.steady])) (hts _ hini))
  refine va_calli (a := (Value.ref b :: As).toArray) (A1 := va_A wc H.size) (free := va_A wc H.size) (post := post) (B := fun u t => posW D (w1 u) (va_A wc H.size) t) (mc := rm.cells) (ms := rm.slots) (rest := rest) ?_ hw.2.2 (fun q _ h => hFc q h) hFc (fun r u t H1 locs1 ht hvm hp hB hz hk hS1 => kk r u H1 locs1 hp (hw.back isC isR hC hRr hnR hdis hFc ht hk hB hS1))
  obtain ⟨cellB, hcB, hoB, hclB⟩ := hrecv
  obtain ⟨kB, hkB, -⟩ := Vm.findClass_spec hclB
  intro T hT X0
  have tab : ∀ {w : Cond}, w.onTables = true → va_Nw w s → w.before args s = true := fun hc h => va_tabs (u := s) (U := s) hc rfl h
  obtain ⟨v, vm₁, ⟨U', l2, c2, s2⟩, hW₁, X', ⟨g', mk, t, L, e1, e2, hq, h1, hL, h2, h3⟩, st⟩ := xd_callD X0 hx (bytes := bytes) (maxL := maxL) (ret := rt) hown (tab rfl hlink) (tab rfl hsame) hxn hxd (hts _ hsup) (hts _ hinst) (hts _ hg) hno (hland _) hKb (by rw [hT]; exact hcB) hoB hkB (g := F0 m pc ls st0) rfl (hl.trans hml.symm) (argsL := As) (rest := rest) (fun sig h => by rw [h] at hd; exact hlen.trans (Option.some.inj hd).symm) hst (lv_room hWr) (by rw [hb]; exact hdg)
    (fun vm₁ hW₁ => ⟨hf.1, hf.2, rfl, hpre (T.setVm vm₁) hT hW₁⟩)
  dsimp only [Pt.U, Pt.locs, Pt.cells, Pt.slots] at X' e1 e2 h1 h2 h3 st
  subst h1; subst h2; subst h3
  exact ⟨v, (T.setVm vm₁).calling g' mk (Value.ref b :: As).toArray, t, U', L, hT, X', hL, e1, e2, hq, st⟩
end XD10
