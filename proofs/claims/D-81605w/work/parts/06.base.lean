/-! BASE: pure helpers, contract forms, rows of calls, joins, loops, returns -/
set_option maxRecDepth 100000
/-- an int array read in range -/
def rd (f : Nat → Int32) (n : Nat) (i : Int32) : Option Int32 := if i < 0 ∨ n ≤ i.toNatClampNeg then none else some (f i.toNatClampNeg)
/-- an int array written in range -/
def wr (f : Nat → Int32) (n : Nat) (i x : Int32) : Option (Nat → Int32) := if i < 0 ∨ n ≤ i.toNatClampNeg then none else some (upd f i.toNatClampNeg x)
def wrZ (f : Nat → Int32) (n : Nat) (i x : Int32) : Option (Nat → Int32) := if i < 0 ∨ n ≤ i.toNatClampNeg then none else some (upd f i.toNatClampNeg (vp_nar .boolean x))
def wrB (f : Nat → Int32) (n : Nat) (i x : Int32) : Option (Nat → Int32) := if i < 0 ∨ n ≤ i.toNatClampNeg then none else some (upd f i.toNatClampNeg (vp_nar .byte x))
def rdq (f : Nat → Option Nat) (n : Nat) (i : Int32) : Option (Option Nat) := if i < 0 ∨ n ≤ i.toNatClampNeg then none else some (f i.toNatClampNeg)
def wrq (f : Nat → Option Nat) (n : Nat) (i : Int32) (x : Option Nat) : Option (Nat → Option Nat) := if i < 0 ∨ n ≤ i.toNatClampNeg then none else some (va_up f i.toNatClampNeg x)
def gnz (y : Int32) : Option Unit := if y = 0 then none else some ()
def gnzL (y : Int64) : Option Unit := if y = 0 then none else some ()
def gb (v : Int32) : Option Unit := if v = 0 ∨ v = 1 then some () else none
theorem rd_spec {f : Nat → Int32} {n : Nat} {i v : Int32} (h : rd f n i = some v) : vp_in i n ∧ f i.toNatClampNeg = v := by
  unfold rd at h
  split at h
  · cases h
  · next h1 => exact ⟨h1, Option.some.inj h⟩
theorem rdq_spec {f : Nat → Option Nat} {n : Nat} {i : Int32} {v : Option Nat} (h : rdq f n i = some v) : vp_in i n ∧ f i.toNatClampNeg = v := by
  unfold rdq at h
  split at h
  · cases h
  · next h1 => exact ⟨h1, Option.some.inj h⟩
theorem wr_spec {f g : Nat → Int32} {n : Nat} {i x : Int32} (h : wr f n i x = some g) : vp_in i n ∧ upd f i.toNatClampNeg x = g := by
  unfold wr at h
  split at h
  · cases h
  · next h1 => exact ⟨h1, Option.some.inj h⟩
theorem wrZ_spec {f g : Nat → Int32} {n : Nat} {i x : Int32} (h : wrZ f n i x = some g) : vp_in i n ∧ upd f i.toNatClampNeg (vp_nar .boolean x) = g := by
  unfold wrZ at h
  split at h
  · cases h
  · next h1 => exact ⟨h1, Option.some.inj h⟩
theorem wrB_spec {f g : Nat → Int32} {n : Nat} {i x : Int32} (h : wrB f n i x = some g) : vp_in i n ∧ upd f i.toNatClampNeg (vp_nar .byte x) = g := by
  unfold wrB at h
  split at h
  · cases h
  · next h1 => exact ⟨h1, Option.some.inj h⟩
theorem wrq_spec {f g : Nat → Option Nat} {n : Nat} {i : Int32} {x : Option Nat} (h : wrq f n i x = some g) : vp_in i n ∧ va_up f i.toNatClampNeg x = g := by
  unfold wrq at h
  split at h
  · cases h
  · next h1 => exact ⟨h1, Option.some.inj h⟩
theorem gnz_spec {y : Int32} {u : Unit} (h : gnz y = some u) : ¬ y = 0 := by
  unfold gnz at h
  split at h
  · cases h
  · next h1 => exact h1
theorem gnzL_spec {y : Int64} {u : Unit} (h : gnzL y = some u) : ¬ y = 0 := by
  unfold gnzL at h
  split at h
  · cases h
  · next h1 => exact h1
theorem gb_spec {v : Int32} {u : Unit} (h : gb v = some u) : narrow .boolean (.int v) = .int v := by
  unfold gb at h
  split at h
  · next h1 =>
    rcases h1 with h1 | h1
    · rw [h1]; rfl
    · rw [h1]; rfl
  · cases h
/-- a loop with fuel: the body goes on (inl) or leaves (inr) -/
def lp {S T : Type} (b : S → Option (S ⊕ T)) : Nat → S → Option T
  | 0, _ => none
  | n + 1, s => (b s).bind (fun q => match q with | .inl s' => lp b n s' | .inr t => some t)
theorem op_e {α β : Type} {x : Option α} {k : α → Option β} {y : β} (h : x.bind k = some y) : ∃ a, x = some a ∧ k a = some y := by
  cases x with
  | none => cases h
  | some a => exact ⟨a, rfl, h⟩
theorem if_t {α : Type} {c : Prop} [Decidable c] {a b y : α} (h : (if c then a else b) = y) (hc : c) : a = y := by rw [if_pos hc] at h; exact h
theorem if_f {α : Type} {c : Prop} [Decidable c] {a b y : α} (h : (if c then a else b) = y) (hc : ¬ c) : b = y := by rw [if_neg hc] at h; exact h
theorem sm_e {α : Type} {a b : α} (h : some a = some b) : a = b := Option.some.inj h

abbrev vwCl : List vw_C := [(RX9, TX9, 19), (RX0, TX0, 14), (RX1, TX1, 15), (RJ2, TJ2, 3), (RX2, TX2, 2), (RX4, TX4, 1), (RX5, TX5, 1), (RX6, TX6, 1), (RX7, TX7, 1), (RX8, TX8, 1), (RX11, TX11, 2), (RX12, TX12, 7), (RX10, TX10, 7), (RX13, TX13, 8), (RJ8, TJ8, 2)]
abbrev oM (ad : Nat → Nat) (fu ft ff fs fa fb fn fr : Int32) : Nat × va_E := ((ad 0), .inr (0, [.ref (ad 1), .int fu, .ref (ad 2), .int ft, .int ff, .int fs, .ref (ad 3), .ref (ad 4), .ref (ad 5), .ref (ad 6), .int fa, .int fb, .int fn, .ref (ad 7), .ref (ad 8), .ref (ad 9), .ref (ad 10), .ref (ad 11), .int fr]))
def FU : Nat := 100000
abbrev tyA (d : Nat → ClassId) : List (ClassId × FieldType) := [(d 0, .int), (d 1, .byte), (d 2, .boolean), (d 3, .object "DishLift$Row"), (d 4, .object "DishLift$House"), (d 5, .object "DishLift$Dish"), (d 6, .object "java/lang/Object")]
abbrev XT : Type := (Nat → Prop) → State → Heap → Prop
/-- what is known of cells and tables that nobody writes: it moves along -/
def XOK (X : XT) : Prop := (∀ (A : Nat → Prop) (u U : State) (H : Heap), (u.WarmedH U.vm ∨ u.vm = U.vm) → X A u H → X A U H) ∧ (∀ (A : Nat → Prop) (U : State) (H H1 : Heap), X A U H → (∀ a : Nat, a < H.size → ¬ A a → H1[a]? = H[a]?) → X A U H1) ∧ (∀ (A B : Nat → Prop) (U : State) (H : Heap), X A U H → (∀ q, B q → A q) → X B U H)
def Wd (D : va_G) (A : Nat → Prop) (s : State) (ws : va_W) (H : Heap) (locs : List Loc) : Prop := va_P D vwCl ws H ∧ va_D A ws ∧ va_S A s.heap H locs
def preW (X : XT) (D : va_G) (d : Nat → ClassId) (ws : va_W) (sz : Nat) (U : State) : Prop := U.heap.size = sz ∧ va_P D vwCl ws U.heap ∧ va_K D vwCl (tyA d) U ∧ va_D (fun _ => True) ws ∧ X (va_A ws sz) U U.heap
def posW (D : va_G) (ws : va_W) (A : Nat → Prop) (t : State) : Prop := va_P D vwCl ws t.heap ∧ va_D A ws
theorem preW.blind {X : XT} (hX : XOK X) {av : List Value} {D : va_G} {d : Nat → ClassId} {ws : va_W} {sz : Nat} : FrameBlind (va_Pc av (preW X D d ws sz)) := by
  intro a U g mk q
  obtain ⟨q0, q1, qP, qK, qD, qX⟩ := q
  exact ⟨q0, q1, qP, va_K.moved (u := U) (U := U.calling g mk a) (Vm.Alike.refl U.vm) qK, qD, hX.1 _ U (U.calling g mk a) _ (Or.inr rfl) qX⟩

/-- a contract with its world: answer int -/
def MetI {S : Type} (l : Launch) (y : MethodName) (wy : List Cond) (rm : Room) (av : List Value) (X : XT) (D : va_G) (d : Nat → ClassId) (ws : va_W) (post : Int32 → S → Prop) (w1 : S → va_W) : Prop :=
  ∀ sz : Nat, Met l y wy rm (va_Pc av (preW X D d ws sz)) (va_Qi post (fun u t => posW D (w1 u) (va_A ws sz) t) (va_A ws sz)) rm.cells rm.slots (va_A ws sz)
/-- a contract with its world: answer long -/
def MetL {S : Type} (l : Launch) (y : MethodName) (wy : List Cond) (rm : Room) (av : List Value) (X : XT) (D : va_G) (d : Nat → ClassId) (ws : va_W) (post : Int64 → S → Prop) (w1 : S → va_W) : Prop :=
  ∀ sz : Nat, Met l y wy rm (va_Pc av (preW X D d ws sz)) (va_Ql post (fun u t => posW D (w1 u) (va_A ws sz) t) (va_A ws sz)) rm.cells rm.slots (va_A ws sz)
/-- a contract with its world: answer void -/
def MetV {S : Type} (l : Launch) (y : MethodName) (wy : List Cond) (rm : Room) (av : List Value) (X : XT) (D : va_G) (d : Nat → ClassId) (ws : va_W) (post : S → Prop) (w1 : S → va_W) : Prop :=
  ∀ sz : Nat, Met l y wy rm (va_Pc av (preW X D d ws sz)) (va_Qv post (fun u t => posW D (w1 u) (va_A ws sz) t) (va_A ws sz)) rm.cells rm.slots (va_A ws sz)
/-- a contract with its world: answer ref -/
def MetR {S : Type} (l : Launch) (y : MethodName) (wy : List Cond) (rm : Room) (av : List Value) (X : XT) (D : va_G) (d : Nat → ClassId) (ws : va_W) (post : S → Prop) (w1 : S → Nat → va_W) : Prop :=
  ∀ sz : Nat, Met l y wy rm (va_Pc av (preW X D d ws sz)) (va_Qr post (fun u a t => posW D (w1 u a) (va_A ws sz) t) (va_A ws sz)) rm.cells rm.slots (va_A ws sz)
/-- what stands all through a method's walk -/
def Cx (p : Program) (s : State) (m : MethodId) (args : Array Value) (meth : Method) (c : Code) (X : XT) (D : va_G) (d : Nat → ClassId) (A : Nat → Prop) (own : String) (cc : ByteArray) (nL : Nat) (ret : Option FieldType) (nm : String) : Prop :=
  p.tables.exec = Jvm.exec ∧ c.code = cc ∧ meth.sig.returnType = ret ∧ meth.locks = false ∧ c.maxLocals = nL ∧ s.vm.findClass own = some m.cls ∧ (∀ w ∈ lw_all, w.before args s = true) ∧ va_K D vwCl (tyA d) s ∧ (∀ q : Nat, s.heap.size ≤ q → A q) ∧ X A s s.heap ∧ meth.name = nm
theorem MetI.of {S : Type} {l : Launch} {y : MethodName} {cc : ByteArray} {maxL : Nat} {ret : Option FieldType} {rm : Room} {av : List Value} {X : XT} {D : va_G} {d : Nat → ClassId} {ws : va_W} {post : Int32 → S → Prop} {w1 : S → va_W} (hy : plainName y.cls = true) (hn : (lg_sl av).length ≤ maxL)
    (body : ∀ (p : Program) (e : Env) (s : State) (m : MethodId) (below : List Frame) (meth : Method) (c : Code) (A : Nat → Prop), Cx p s m av.toArray meth c X D d A y.cls cc maxL ret y.name → Wd D A s ws s.heap [] → ∀ ls : Array Slot, lv_has ls maxL (lv_args 0 av) →
      W p l e rm s m av.toArray below meth c s.heap [] 0 0 (MQ below (va_Qi post (fun u t => posW D (w1 u) A t) A) av.toArray s rm.cells rm.slots A) (F0 m 0 ls [])) : MetI l y (ws_ y cc maxL ret) rm av X D d ws post w1 := by
  intro sz
  refine Met.ofW (cc := cc) (maxL := maxL) (ret := ret) hy rfl ?_
  intro p e s m args below meth c s₁ Bd hml hv
  obtain ⟨rfl, hsz, hP, hK, hD0, hXs⟩ := hv
  have hts := atoms_spec (ws := ws_ y cc maxL ret) Bd.pre
  have hts : ∀ w ∈ lw_all, w.before _ s = true := fun w h => hts w (List.mem_cons_of_mem _ h)
  have hown : s.vm.findClass y.cls = some m.cls := findClass_of_methodNamed Bd.named
  have hnm : meth.name = y.name := (name_of_methodNamed Bd.named Bd.method).1
  subst hsz
  have hD := hD0.self (sz := s.heap.size)
  have hA : ∀ q : Nat, s.heap.size ≤ q → va_A ws s.heap.size q := fun q h => Or.inr h
  have hl := lv_entry av (n := maxL) hn
  rw [lg_entry_eq]
  exact body p e s m below meth c _ ⟨Bd.exec, Bd.bytes, Bd.returns, Bd.notSynchronized, hml, hown, hts, hK, hA, hXs, hnm⟩ ⟨hP, hD, va_S.rf⟩ _ hl
theorem MetL.of {S : Type} {l : Launch} {y : MethodName} {cc : ByteArray} {maxL : Nat} {ret : Option FieldType} {rm : Room} {av : List Value} {X : XT} {D : va_G} {d : Nat → ClassId} {ws : va_W} {post : Int64 → S → Prop} {w1 : S → va_W} (hy : plainName y.cls = true) (hn : (lg_sl av).length ≤ maxL)
    (body : ∀ (p : Program) (e : Env) (s : State) (m : MethodId) (below : List Frame) (meth : Method) (c : Code) (A : Nat → Prop), Cx p s m av.toArray meth c X D d A y.cls cc maxL ret y.name → Wd D A s ws s.heap [] → ∀ ls : Array Slot, lv_has ls maxL (lv_args 0 av) →
      W p l e rm s m av.toArray below meth c s.heap [] 0 0 (MQ below (va_Ql post (fun u t => posW D (w1 u) A t) A) av.toArray s rm.cells rm.slots A) (F0 m 0 ls [])) : MetL l y (ws_ y cc maxL ret) rm av X D d ws post w1 := by
  intro sz
  refine Met.ofW (cc := cc) (maxL := maxL) (ret := ret) hy rfl ?_
  intro p e s m args below meth c s₁ Bd hml hv
  obtain ⟨rfl, hsz, hP, hK, hD0, hXs⟩ := hv
  have hts := atoms_spec (ws := ws_ y cc maxL ret) Bd.pre
  have hts : ∀ w ∈ lw_all, w.before _ s = true := fun w h => hts w (List.mem_cons_of_mem _ h)
  have hown : s.vm.findClass y.cls = some m.cls := findClass_of_methodNamed Bd.named
  have hnm : meth.name = y.name := (name_of_methodNamed Bd.named Bd.method).1
  subst hsz
  have hD := hD0.self (sz := s.heap.size)
  have hA : ∀ q : Nat, s.heap.size ≤ q → va_A ws s.heap.size q := fun q h => Or.inr h
  have hl := lv_entry av (n := maxL) hn
  rw [lg_entry_eq]
  exact body p e s m below meth c _ ⟨Bd.exec, Bd.bytes, Bd.returns, Bd.notSynchronized, hml, hown, hts, hK, hA, hXs, hnm⟩ ⟨hP, hD, va_S.rf⟩ _ hl
theorem MetV.of {S : Type} {l : Launch} {y : MethodName} {cc : ByteArray} {maxL : Nat} {ret : Option FieldType} {rm : Room} {av : List Value} {X : XT} {D : va_G} {d : Nat → ClassId} {ws : va_W} {post : S → Prop} {w1 : S → va_W} (hy : plainName y.cls = true) (hn : (lg_sl av).length ≤ maxL)
    (body : ∀ (p : Program) (e : Env) (s : State) (m : MethodId) (below : List Frame) (meth : Method) (c : Code) (A : Nat → Prop), Cx p s m av.toArray meth c X D d A y.cls cc maxL ret y.name → Wd D A s ws s.heap [] → ∀ ls : Array Slot, lv_has ls maxL (lv_args 0 av) →
      W p l e rm s m av.toArray below meth c s.heap [] 0 0 (MQ below (va_Qv post (fun u t => posW D (w1 u) A t) A) av.toArray s rm.cells rm.slots A) (F0 m 0 ls [])) : MetV l y (ws_ y cc maxL ret) rm av X D d ws post w1 := by
  intro sz
  refine Met.ofW (cc := cc) (maxL := maxL) (ret := ret) hy rfl ?_
  intro p e s m args below meth c s₁ Bd hml hv
  obtain ⟨rfl, hsz, hP, hK, hD0, hXs⟩ := hv
  have hts := atoms_spec (ws := ws_ y cc maxL ret) Bd.pre
  have hts : ∀ w ∈ lw_all, w.before _ s = true := fun w h => hts w (List.mem_cons_of_mem _ h)
  have hown : s.vm.findClass y.cls = some m.cls := findClass_of_methodNamed Bd.named
  have hnm : meth.name = y.name := (name_of_methodNamed Bd.named Bd.method).1
  subst hsz
  have hD := hD0.self (sz := s.heap.size)
  have hA : ∀ q : Nat, s.heap.size ≤ q → va_A ws s.heap.size q := fun q h => Or.inr h
  have hl := lv_entry av (n := maxL) hn
  rw [lg_entry_eq]
  exact body p e s m below meth c _ ⟨Bd.exec, Bd.bytes, Bd.returns, Bd.notSynchronized, hml, hown, hts, hK, hA, hXs, hnm⟩ ⟨hP, hD, va_S.rf⟩ _ hl
theorem MetR.of {S : Type} {l : Launch} {y : MethodName} {cc : ByteArray} {maxL : Nat} {ret : Option FieldType} {rm : Room} {av : List Value} {X : XT} {D : va_G} {d : Nat → ClassId} {ws : va_W} {post : S → Prop} {w1 : S → Nat → va_W} (hy : plainName y.cls = true) (hn : (lg_sl av).length ≤ maxL)
    (body : ∀ (p : Program) (e : Env) (s : State) (m : MethodId) (below : List Frame) (meth : Method) (c : Code) (A : Nat → Prop), Cx p s m av.toArray meth c X D d A y.cls cc maxL ret y.name → Wd D A s ws s.heap [] → ∀ ls : Array Slot, lv_has ls maxL (lv_args 0 av) →
      W p l e rm s m av.toArray below meth c s.heap [] 0 0 (MQ below (va_Qr post (fun u a t => posW D (w1 u a) A t) A) av.toArray s rm.cells rm.slots A) (F0 m 0 ls [])) : MetR l y (ws_ y cc maxL ret) rm av X D d ws post w1 := by
  intro sz
  refine Met.ofW (cc := cc) (maxL := maxL) (ret := ret) hy rfl ?_
  intro p e s m args below meth c s₁ Bd hml hv
  obtain ⟨rfl, hsz, hP, hK, hD0, hXs⟩ := hv
  have hts := atoms_spec (ws := ws_ y cc maxL ret) Bd.pre
  have hts : ∀ w ∈ lw_all, w.before _ s = true := fun w h => hts w (List.mem_cons_of_mem _ h)
  have hown : s.vm.findClass y.cls = some m.cls := findClass_of_methodNamed Bd.named
  have hnm : meth.name = y.name := (name_of_methodNamed Bd.named Bd.method).1
  subst hsz
  have hD := hD0.self (sz := s.heap.size)
  have hA : ∀ q : Nat, s.heap.size ≤ q → va_A ws s.heap.size q := fun q h => Or.inr h
  have hl := lv_entry av (n := maxL) hn
  rw [lg_entry_eq]
  exact body p e s m below meth c _ ⟨Bd.exec, Bd.bytes, Bd.returns, Bd.notSynchronized, hml, hown, hts, hK, hA, hXs, hnm⟩ ⟨hP, hD, va_S.rf⟩ _ hl
section XROWS
variable {p : Program} {l : Launch} {e : Env} {R : Room} {s : State} {m : MethodId} {args : Array Value} {below : List Frame} {meth : Method} {c : Code} {H : Heap} {locs : List Loc} {cells slots : Nat} {Q : State → Prop}
variable {cc : ByteArray} {pc : Nat} {ls : Array Slot} {rest : List Value} {X : XT} {D : va_G} {d : Nat → ClassId} {A : Nat → Prop} {a : Nat} {ws : va_W} {own nm : String} {nL : Nat} {ret : Option FieldType}
/-- a place where paths meet: first what follows, then the paths to it -/
theorem x_join {cells' slots' J pc0 : Nat} {st st0 : List Value} {ls0 : Array Slot} {H0 : Heap} {locs0 : List Loc} (ws : va_W) (lv : List (Nat × Value)) (k : ∀ (H : Heap) (locs : List Loc) (ls : Array Slot), Wd D A s ws H locs → lv_has ls nL lv → W p l e R s m args below meth c H locs cells' slots' Q (F0 m J ls st))
    (h : (∀ (H : Heap) (locs : List Loc) (ls : Array Slot), Wd D A s ws H locs → lv_has ls nL lv → W p l e R s m args below meth c H locs cells' slots' Q (F0 m J ls st)) → W p l e R s m args below meth c H0 locs0 cells slots Q (F0 m pc0 ls0 st0)) : W p l e R s m args below meth c H0 locs0 cells slots Q (F0 m pc0 ls0 st0) := h k
/-- a loop at its head, by its fuel -/
theorem x_lp {S T : Type} {b : S → Option (S ⊕ T)} {n : Nat} {s0 : S} {r : T} {st : List Value} (hf : lp b n s0 = some r) (wf : S → va_W) (lf : S → List (Nat × Value)) (hw : Wd D A s (wf s0) H locs) (hl : lv_has ls nL (lf s0))
    (step : ∀ (x : S) (q : S ⊕ T), b x = some q → (∀ y, q = .inl y → ∀ (H : Heap) (locs : List Loc) (ls : Array Slot), Wd D A s (wf y) H locs → lv_has ls nL (lf y) → W p l e R s m args below meth c H locs cells slots Q (F0 m pc ls st)) → (∀ z, q = .inr z → z = r) →
      ∀ (H : Heap) (locs : List Loc) (ls : Array Slot), Wd D A s (wf x) H locs → lv_has ls nL (lf x) → W p l e R s m args below meth c H locs cells slots Q (F0 m pc ls st)) : W p l e R s m args below meth c H locs cells slots Q (F0 m pc ls st) := by
  induction n generalizing s0 H locs ls with
  | zero => cases hf
  | succ n ih =>
    obtain ⟨q, h1, h2⟩ := op_e hf
    refine step s0 q h1 (fun y hy H locs ls hw hl => ?_) (fun z hz => ?_) H locs ls hw hl
    · subst hy
      exact ih h2 hw hl
    · subst hz
      exact Option.some.inj h2
/-- the same, with cells made on the way: ka cells and kb slots a round -/
theorem x_lpA {S T : Type} {b : S → Option (S ⊕ T)} {s0 : S} {r : T} {st : List Value} (ka kb : Nat) (n : Nat) (hf : lp b n s0 = some r) (wf : S → va_W) (lf : S → List (Nat × Value)) (hw : Wd D A s (wf s0) H locs) (hl : lv_has ls nL (lf s0)) {c1 s1 : Nat} (hc : c1 = cells + n * ka) (hs : s1 = slots + n * kb)
    (step : ∀ (k : Nat), k < n → ∀ (x : S) (q : S ⊕ T), b x = some q → (∀ y, q = .inl y → ∀ (H : Heap) (locs : List Loc) (ls : Array Slot), Wd D A s (wf y) H locs → lv_has ls nL (lf y) → W p l e R s m args below meth c H locs (cells + (k + 1) * ka) (slots + (k + 1) * kb) Q (F0 m pc ls st)) → (∀ z, q = .inr z → z = r) →
      ∀ (H : Heap) (locs : List Loc) (ls : Array Slot), Wd D A s (wf x) H locs → lv_has ls nL (lf x) → W p l e R s m args below meth c H locs (cells + k * ka) (slots + k * kb) Q (F0 m pc ls st)) : W p l e R s m args below meth c H locs cells slots Q (F0 m pc ls st) := by
  have key : ∀ (j : Nat) (k : Nat), k + j = n → ∀ (s0 : S) (H : Heap) (locs : List Loc) (ls : Array Slot), lp b j s0 = some r → Wd D A s (wf s0) H locs → lv_has ls nL (lf s0) → W p l e R s m args below meth c H locs (cells + k * ka) (slots + k * kb) Q (F0 m pc ls st) := by
    intro j
    induction j with
    | zero => intro k hk s0 H locs ls hf; cases hf
    | succ j ih =>
      intro k hk s0 H locs ls hf hw hl
      obtain ⟨q, h1, h2⟩ := op_e hf
      refine step k (by omega) s0 q h1 (fun y hy H locs ls hw hl => ?_) (fun z hz => ?_) H locs ls hw hl
      · subst hy
        exact ih (k + 1) (by omega) y H locs ls h2 hw hl
      · subst hz
        exact Option.some.inj h2
  have h := key n 0 (Nat.zero_add n) s0 H locs ls hf hw hl
  rw [Nat.zero_mul, Nat.zero_mul] at h
  exact h
theorem fm_of {α : Type} {f : Nat → Option α} {is : List Nat} {w : List α} (h : is.map f = w.map some) : is.filterMap f = w := by
  have h2 : (is.map f).filterMap id = w := by rw [h, List.filterMap_map]; simp
  rw [← h2, List.filterMap_map]; rfl
theorem Wd.sub {ws' : va_W} (hw : Wd D A s ws H locs) (is : List Nat) (hn : va_nd is = true) (hs : is.map (fun i => ws[i]?) = ws'.map some) : Wd D A s ws' H locs := ⟨hw.1.sub is (fm_of hs), hw.2.1.sub is hn hs, hw.2.2⟩

theorem x_retI {S : Type} {post : Int32 → S → Prop} {w1 : S → va_W} {mc ms : Nat} {v : Int32} {ty : FieldType} (cx : Cx p s m args meth c X D d A own cc nL (some ty) nm) (hw : Wd D A s ws H locs) (hn : narrow ty (.int v) = .int v) (u : S) (hp : post v u) (is : List Nat) (hi : va_nd is = true) (hs : is.map (fun i => ws[i]?) = (w1 u).map some) (hc : cells ≤ mc) (hsl : slots ≤ ms) (hdg : decode cc pc = .ok (.ireturn, 1)) :
    W p l e R s m args below meth c H locs cells slots (MQ below (va_Qi post (fun u t => posW D (w1 u) A t) A) args s mc ms A) (F0 m pc ls [.int v]) := by
  obtain ⟨hx, hb, hr, hlk, -⟩ := cx
  have hw := hw.sub is hi hs
  refine W.widen hc hsl ?_
  exact W.zret hx hb hr hn (fun t ht hW => ⟨⟨v, u, rfl, hp, by rw [ht]; exact hw.1, hw.2.1⟩, hw.2.2.F ht⟩) hw.2.2.2.2 hdg hlk
theorem x_retL {S : Type} {post : Int64 → S → Prop} {w1 : S → va_W} {mc ms : Nat} {v : Int64} (cx : Cx p s m args meth c X D d A own cc nL (some .long) nm) (hw : Wd D A s ws H locs) (u : S) (hp : post v u) (is : List Nat) (hi : va_nd is = true) (hs : is.map (fun i => ws[i]?) = (w1 u).map some) (hc : cells ≤ mc) (hsl : slots ≤ ms) (hdg : decode cc pc = .ok (.lreturn, 1)) :
    W p l e R s m args below meth c H locs cells slots (MQ below (va_Ql post (fun u t => posW D (w1 u) A t) A) args s mc ms A) (F0 m pc ls [.long v]) := by
  obtain ⟨hx, hb, hr, hlk, -⟩ := cx
  have hw := hw.sub is hi hs
  refine W.widen hc hsl ?_
  exact W.lret hx hb hr (fun t ht hW => ⟨⟨v, u, rfl, hp, by rw [ht]; exact hw.1, hw.2.1⟩, hw.2.2.F ht⟩) hw.2.2.2.2 hdg hlk
theorem x_retV {S : Type} {post : S → Prop} {w1 : S → va_W} {mc ms : Nat} (cx : Cx p s m args meth c X D d A own cc nL none nm) (hw : Wd D A s ws H locs) (u : S) (hp : post u) (is : List Nat) (hi : va_nd is = true) (hs : is.map (fun i => ws[i]?) = (w1 u).map some) (hc : cells ≤ mc) (hsl : slots ≤ ms) (hdg : decode cc pc = .ok (.return_, 1)) :
    W p l e R s m args below meth c H locs cells slots (MQ below (va_Qv post (fun u t => posW D (w1 u) A t) A) args s mc ms A) (F0 m pc ls []) := by
  obtain ⟨hx, hb, hr, hlk, -⟩ := cx
  have hw := hw.sub is hi hs
  refine W.widen hc hsl ?_
  exact W.vret hx hb hr (fun t ht hW => ⟨⟨u, rfl, hp, by rw [ht]; exact hw.1, hw.2.1⟩, hw.2.2.F ht⟩) hw.2.2.2.2 hdg hlk
theorem x_retR {S : Type} {post : S → Prop} {w1 : S → Nat → va_W} {mc ms : Nat} {rt : FieldType} (cx : Cx p s m args meth c X D d A own cc nL (some rt) nm) (hw : Wd D A s ws H locs) (hrt : (∃ n, rt = .object n) ∨ ∃ t, rt = .array t) (u : S) (hp : post u) (is : List Nat) (hi : va_nd is = true) (hs : is.map (fun i => ws[i]?) = (w1 u a).map some) (hc : cells ≤ mc) (hsl : slots ≤ ms) (hdg : decode cc pc = .ok (.areturn, 1)) :
    W p l e R s m args below meth c H locs cells slots (MQ below (va_Qr post (fun u a t => posW D (w1 u a) A t) A) args s mc ms A) (F0 m pc ls [.ref a]) := by
  obtain ⟨hx, hb, hr, hlk, -⟩ := cx
  have hw := hw.sub is hi hs
  refine W.widen hc hsl ?_
  exact W.aret hx hb hr hrt (Or.inr ⟨a, rfl⟩) (fun t ht hW => ⟨⟨u, a, rfl, hp, by rw [ht]; exact hw.1, hw.2.1⟩, hw.2.2.F ht⟩) hw.2.2.2.2 hdg hlk
theorem Wd.give {wc : va_W} (hX : XOK X) (cx : Cx p s m args meth c X D d A own cc nL ret nm) (hw : Wd D A s ws H locs) (isC : List Nat) (hn : va_nd isC = true) (hC : isC.map (fun i => ws[i]?) = wc.map some) : (∀ q, va_A wc H.size q → A q) ∧ ∀ U : State, U.heap = H → s.WarmedH U.vm → preW X D d wc H.size U := by
  obtain ⟨hx, hb, hr, hlk, hml, hown, hts, hK, hA, hXs, -⟩ := cx
  have hF := va_free (wc := wc) hw.2.1 hw.2.2 hA isC hC
  refine ⟨hF, fun U hU hW => ?_⟩
  have hw' := hw.sub isC hn hC
  exact ⟨by rw [hU], by rw [hU]; exact hw'.1, va_K.moved hW.alike hK, hw'.2.1.weaken (fun _ _ _ _ => trivial), by rw [hU]; exact hX.2.2 _ _ _ _ (hX.2.1 _ _ _ _ (hX.1 _ _ _ _ (Or.inl hW) hXs) hw.2.2.2.1) hF⟩
theorem Wd.back {wc wr w1 : va_W} {H1 : Heap} {locs1 : List Loc} (hw : Wd D A s ws H locs) (isC isR : List Nat) (hC : isC.map (fun i => ws[i]?) = wc.map some) (hR : isR.map (fun i => ws[i]?) = wr.map some) (hn : va_nd isR = true) (hdis : ∀ i ∈ isR, i ∉ isC)
    (hF : ∀ q, va_A wc H.size q → A q) {t : State} (ht : t.heap = H1) (hk : ∀ q : Nat, q < H.size → ¬ va_A wc H.size q → H1[q]? = H[q]?) (hB : posW D w1 (va_A wc H.size) t) (hS : va_S A s.heap H1 locs1) : Wd D A s (wr ++ w1) H1 locs1 := by
  obtain ⟨hP1, hD1⟩ := hB
  rw [ht] at hP1
  obtain ⟨a1, a2⟩ := va_join (wr := wr) (w1 := w1) hw.1 hw.2.1 isC isR hC hR hn hdis hk hF hP1 hD1
  exact ⟨a1, a2, hS⟩

/-- invokevirtual, the method of the class itself; answer int -/
theorem x_VI {S : Type} {post : Int32 → S → Prop} {w1 : S → va_W} {wc wr : va_W} {y : MethodName} {bytes : ByteArray} {maxL idx n : Nat} {rt : Option FieldType} {rm : Room} {b : Nat} {C : String} {st0 : List Value} (As : List Value) (hX : XOK X) (cx : Cx p s m args meth c X D d A own cc nL ret nm) (hw : Wd D A s ws H locs) (hl : ls.size = nL)
    (hM : MetI l y (ws_ y bytes maxL rt) rm (.ref b :: As) X D d wc post w1) (hg : GoodIn lw_all (wsV own idx C y (ws_ y bytes maxL rt))) (hd : y.cls = C ∧ y.cls ≠ "java/lang/invoke/MethodHandle" ∧ y.cls ≠ "java/lang/invoke/VarHandle" ∧ (parseMethodDescriptor y.desc).map (fun d => d.parameters.length) = some n) (hR : rm.frames + 1 ≤ R.frames ∧ 8 + (maxL + 11) + rm.locals ≤ R.locals)
    (hrecv : ∃ cell : Cell, H[b]? = some cell ∧ cell.vm.isStatics = false ∧ s.vm.findClass C = some cell.cls) (hlen : As.length = n) (hst : st0 = As.reverse ++ .ref b :: rest) (hWr : (rest.map fun v => v.category).sum ≤ 8) (hdg : decode cc pc = .ok (.invokevirtual idx, 3)) (isC isR : List Nat) (hnC : va_nd isC = true) (hC : isC.map (fun i => ws[i]?) = wc.map some) (hRr : isR.map (fun i => ws[i]?) = wr.map some) (hnR : va_nd isR = true) (hdis : ∀ i ∈ isR, i ∉ isC) (hf : cells + rm.cells ≤ R.cells ∧ slots + rm.slots ≤ R.slots)
    (kk : ∀ (r : Int32) (u : S) (H1 : Heap) (locs1 : List Loc), post r u → Wd D A s (wr ++ w1 u) H1 locs1 → W p l e R s m args below meth c H1 locs1 (cells + rm.cells) (slots + rm.slots) Q (F0 m (pc + 3) ls (.int r :: rest))) : W p l e R s m args below meth c H locs cells slots Q (F0 m pc ls st0) := by
  obtain ⟨hFc, hpre⟩ := hw.give hX cx isC hnC hC
  have cx' := cx
  obtain ⟨hx, hb, hr, hlk, hml, hown, hts, hK, hA, hXs, -⟩ := cx'
  exact va_calli (va_runV (As := As) (rest := rest) ⟨hx, hb, hml, hown, hts⟩ (hM H.size) (cwV n hts hg rfl rfl rfl hd hR) ⟨preW.blind hX, hrecv, fun U hU hW => ⟨rfl, hpre U hU hW⟩⟩ rfl hlen hl hst (lv_room hWr) hdg hf) hw.2.2 (fun q _ h => hFc q h) hFc (fun r u t H1 locs1 ht hvm hp hB hz hk hS1 => kk r u H1 locs1 hp (hw.back isC isR hC hRr hnR hdis hFc ht hk hB hS1))
/-- invokestatic; answer int -/
theorem x_SI {S : Type} {post : Int32 → S → Prop} {w1 : S → va_W} {wc wr : va_W} {y : MethodName} {bytes : ByteArray} {maxL idx n : Nat} {rt : Option FieldType} {rm : Room} {st0 : List Value} (As : List Value) (hX : XOK X) (cx : Cx p s m args meth c X D d A own cc nL ret nm) (hw : Wd D A s ws H locs) (hl : ls.size = nL)
    (hM : MetI l y (ws_ y bytes maxL rt) rm As X D d wc post w1) (hg : GoodIn lw_all (va_wsS own idx y (ws_ y bytes maxL rt))) (hd : y.cls ≠ "java/lang/invoke/MethodHandle" ∧ y.cls ≠ "java/lang/invoke/VarHandle" ∧ (parseMethodDescriptor y.desc).map (fun d => d.parameters.length) = some n) (hR : rm.frames + 1 ≤ R.frames ∧ 8 + (maxL + 11) + rm.locals ≤ R.locals)
    (hlen : As.length = n) (hst : st0 = As.reverse ++ rest) (hWr : (rest.map fun v => v.category).sum ≤ 8) (hdg : decode cc pc = .ok (.invokestatic idx, 3)) (isC isR : List Nat) (hnC : va_nd isC = true) (hC : isC.map (fun i => ws[i]?) = wc.map some) (hRr : isR.map (fun i => ws[i]?) = wr.map some) (hnR : va_nd isR = true) (hdis : ∀ i ∈ isR, i ∉ isC) (hf : cells + rm.cells ≤ R.cells ∧ slots + rm.slots ≤ R.slots)
    (kk : ∀ (r : Int32) (u : S) (H1 : Heap) (locs1 : List Loc), post r u → Wd D A s (wr ++ w1 u) H1 locs1 → W p l e R s m args below meth c H1 locs1 (cells + rm.cells) (slots + rm.slots) Q (F0 m (pc + 3) ls (.int r :: rest))) : W p l e R s m args below meth c H locs cells slots Q (F0 m pc ls st0) := by
  obtain ⟨hFc, hpre⟩ := hw.give hX cx isC hnC hC
  have cx' := cx
  obtain ⟨hx, hb, hr, hlk, hml, hown, hts, hK, hA, hXs, -⟩ := cx'
  exact va_calli (va_runS (As := As) (rest := rest) ⟨hx, hb, hml, hown, hts⟩ (hM H.size) (va_cwS n hts hg rfl rfl rfl hd hR) ⟨preW.blind hX, fun U hU hW => ⟨rfl, hpre U hU hW⟩⟩ rfl hlen hl hst (lv_room hWr) hdg hf) hw.2.2 (fun q _ h => hFc q h) hFc (fun r u t H1 locs1 ht hvm hp hB hz hk hS1 => kk r u H1 locs1 hp (hw.back isC isR hC hRr hnR hdis hFc ht hk hB hS1))
/-- invokevirtual, the method of the class itself; answer long -/
theorem x_VL {S : Type} {post : Int64 → S → Prop} {w1 : S → va_W} {wc wr : va_W} {y : MethodName} {bytes : ByteArray} {maxL idx n : Nat} {rt : Option FieldType} {rm : Room} {b : Nat} {C : String} {st0 : List Value} (As : List Value) (hX : XOK X) (cx : Cx p s m args meth c X D d A own cc nL ret nm) (hw : Wd D A s ws H locs) (hl : ls.size = nL)
    (hM : MetL l y (ws_ y bytes maxL rt) rm (.ref b :: As) X D d wc post w1) (hg : GoodIn lw_all (wsV own idx C y (ws_ y bytes maxL rt))) (hd : y.cls = C ∧ y.cls ≠ "java/lang/invoke/MethodHandle" ∧ y.cls ≠ "java/lang/invoke/VarHandle" ∧ (parseMethodDescriptor y.desc).map (fun d => d.parameters.length) = some n) (hR : rm.frames + 1 ≤ R.frames ∧ 8 + (maxL + 11) + rm.locals ≤ R.locals)
    (hrecv : ∃ cell : Cell, H[b]? = some cell ∧ cell.vm.isStatics = false ∧ s.vm.findClass C = some cell.cls) (hlen : As.length = n) (hst : st0 = As.reverse ++ .ref b :: rest) (hWr : (rest.map fun v => v.category).sum ≤ 8) (hdg : decode cc pc = .ok (.invokevirtual idx, 3)) (isC isR : List Nat) (hnC : va_nd isC = true) (hC : isC.map (fun i => ws[i]?) = wc.map some) (hRr : isR.map (fun i => ws[i]?) = wr.map some) (hnR : va_nd isR = true) (hdis : ∀ i ∈ isR, i ∉ isC) (hf : cells + rm.cells ≤ R.cells ∧ slots + rm.slots ≤ R.slots)
    (kk : ∀ (r : Int64) (u : S) (H1 : Heap) (locs1 : List Loc), post r u → Wd D A s (wr ++ w1 u) H1 locs1 → W p l e R s m args below meth c H1 locs1 (cells + rm.cells) (slots + rm.slots) Q (F0 m (pc + 3) ls (.long r :: rest))) : W p l e R s m args below meth c H locs cells slots Q (F0 m pc ls st0) := by
  obtain ⟨hFc, hpre⟩ := hw.give hX cx isC hnC hC
  have cx' := cx
  obtain ⟨hx, hb, hr, hlk, hml, hown, hts, hK, hA, hXs, -⟩ := cx'
  exact va_calll (va_runV (As := As) (rest := rest) ⟨hx, hb, hml, hown, hts⟩ (hM H.size) (cwV n hts hg rfl rfl rfl hd hR) ⟨preW.blind hX, hrecv, fun U hU hW => ⟨rfl, hpre U hU hW⟩⟩ rfl hlen hl hst (lv_room hWr) hdg hf) hw.2.2 (fun q _ h => hFc q h) hFc (fun r u t H1 locs1 ht hvm hp hB hz hk hS1 => kk r u H1 locs1 hp (hw.back isC isR hC hRr hnR hdis hFc ht hk hB hS1))
/-- invokestatic; answer long -/
theorem x_SL {S : Type} {post : Int64 → S → Prop} {w1 : S → va_W} {wc wr : va_W} {y : MethodName} {bytes : ByteArray} {maxL idx n : Nat} {rt : Option FieldType} {rm : Room} {st0 : List Value} (As : List Value) (hX : XOK X) (cx : Cx p s m args meth c X D d A own cc nL ret nm) (hw : Wd D A s ws H locs) (hl : ls.size = nL)
    (hM : MetL l y (ws_ y bytes maxL rt) rm As X D d wc post w1) (hg : GoodIn lw_all (va_wsS own idx y (ws_ y bytes maxL rt))) (hd : y.cls ≠ "java/lang/invoke/MethodHandle" ∧ y.cls ≠ "java/lang/invoke/VarHandle" ∧ (parseMethodDescriptor y.desc).map (fun d => d.parameters.length) = some n) (hR : rm.frames + 1 ≤ R.frames ∧ 8 + (maxL + 11) + rm.locals ≤ R.locals)
    (hlen : As.length = n) (hst : st0 = As.reverse ++ rest) (hWr : (rest.map fun v => v.category).sum ≤ 8) (hdg : decode cc pc = .ok (.invokestatic idx, 3)) (isC isR : List Nat) (hnC : va_nd isC = true) (hC : isC.map (fun i => ws[i]?) = wc.map some) (hRr : isR.map (fun i => ws[i]?) = wr.map some) (hnR : va_nd isR = true) (hdis : ∀ i ∈ isR, i ∉ isC) (hf : cells + rm.cells ≤ R.cells ∧ slots + rm.slots ≤ R.slots)
    (kk : ∀ (r : Int64) (u : S) (H1 : Heap) (locs1 : List Loc), post r u → Wd D A s (wr ++ w1 u) H1 locs1 → W p l e R s m args below meth c H1 locs1 (cells + rm.cells) (slots + rm.slots) Q (F0 m (pc + 3) ls (.long r :: rest))) : W p l e R s m args below meth c H locs cells slots Q (F0 m pc ls st0) := by
  obtain ⟨hFc, hpre⟩ := hw.give hX cx isC hnC hC
  have cx' := cx
  obtain ⟨hx, hb, hr, hlk, hml, hown, hts, hK, hA, hXs, -⟩ := cx'
  exact va_calll (va_runS (As := As) (rest := rest) ⟨hx, hb, hml, hown, hts⟩ (hM H.size) (va_cwS n hts hg rfl rfl rfl hd hR) ⟨preW.blind hX, fun U hU hW => ⟨rfl, hpre U hU hW⟩⟩ rfl hlen hl hst (lv_room hWr) hdg hf) hw.2.2 (fun q _ h => hFc q h) hFc (fun r u t H1 locs1 ht hvm hp hB hz hk hS1 => kk r u H1 locs1 hp (hw.back isC isR hC hRr hnR hdis hFc ht hk hB hS1))
/-- invokevirtual, the method of the class itself; answer void -/
theorem x_VV {S : Type} {post : S → Prop} {w1 : S → va_W} {wc wr : va_W} {y : MethodName} {bytes : ByteArray} {maxL idx n : Nat} {rt : Option FieldType} {rm : Room} {b : Nat} {C : String} {st0 : List Value} (As : List Value) (hX : XOK X) (cx : Cx p s m args meth c X D d A own cc nL ret nm) (hw : Wd D A s ws H locs) (hl : ls.size = nL)
    (hM : MetV l y (ws_ y bytes maxL rt) rm (.ref b :: As) X D d wc post w1) (hg : GoodIn lw_all (wsV own idx C y (ws_ y bytes maxL rt))) (hd : y.cls = C ∧ y.cls ≠ "java/lang/invoke/MethodHandle" ∧ y.cls ≠ "java/lang/invoke/VarHandle" ∧ (parseMethodDescriptor y.desc).map (fun d => d.parameters.length) = some n) (hR : rm.frames + 1 ≤ R.frames ∧ 8 + (maxL + 11) + rm.locals ≤ R.locals)
    (hrecv : ∃ cell : Cell, H[b]? = some cell ∧ cell.vm.isStatics = false ∧ s.vm.findClass C = some cell.cls) (hlen : As.length = n) (hst : st0 = As.reverse ++ .ref b :: rest) (hWr : (rest.map fun v => v.category).sum ≤ 8) (hdg : decode cc pc = .ok (.invokevirtual idx, 3)) (isC isR : List Nat) (hnC : va_nd isC = true) (hC : isC.map (fun i => ws[i]?) = wc.map some) (hRr : isR.map (fun i => ws[i]?) = wr.map some) (hnR : va_nd isR = true) (hdis : ∀ i ∈ isR, i ∉ isC) (hf : cells + rm.cells ≤ R.cells ∧ slots + rm.slots ≤ R.slots)
    (kk : ∀ (u : S) (H1 : Heap) (locs1 : List Loc), post u → Wd D A s (wr ++ w1 u) H1 locs1 → W p l e R s m args below meth c H1 locs1 (cells + rm.cells) (slots + rm.slots) Q (F0 m (pc + 3) ls rest)) : W p l e R s m args below meth c H locs cells slots Q (F0 m pc ls st0) := by
  obtain ⟨hFc, hpre⟩ := hw.give hX cx isC hnC hC
  have cx' := cx
  obtain ⟨hx, hb, hr, hlk, hml, hown, hts, hK, hA, hXs, -⟩ := cx'
  exact va_callv (va_runV (As := As) (rest := rest) ⟨hx, hb, hml, hown, hts⟩ (hM H.size) (cwV n hts hg rfl rfl rfl hd hR) ⟨preW.blind hX, hrecv, fun U hU hW => ⟨rfl, hpre U hU hW⟩⟩ rfl hlen hl hst (lv_room hWr) hdg hf) hw.2.2 (fun q _ h => hFc q h) hFc (fun u t H1 locs1 ht hvm hp hB hz hk hS1 => kk u H1 locs1 hp (hw.back isC isR hC hRr hnR hdis hFc ht hk hB hS1))
/-- invokestatic; answer void -/
theorem x_SV {S : Type} {post : S → Prop} {w1 : S → va_W} {wc wr : va_W} {y : MethodName} {bytes : ByteArray} {maxL idx n : Nat} {rt : Option FieldType} {rm : Room} {st0 : List Value} (As : List Value) (hX : XOK X) (cx : Cx p s m args meth c X D d A own cc nL ret nm) (hw : Wd D A s ws H locs) (hl : ls.size = nL)
    (hM : MetV l y (ws_ y bytes maxL rt) rm As X D d wc post w1) (hg : GoodIn lw_all (va_wsS own idx y (ws_ y bytes maxL rt))) (hd : y.cls ≠ "java/lang/invoke/MethodHandle" ∧ y.cls ≠ "java/lang/invoke/VarHandle" ∧ (parseMethodDescriptor y.desc).map (fun d => d.parameters.length) = some n) (hR : rm.frames + 1 ≤ R.frames ∧ 8 + (maxL + 11) + rm.locals ≤ R.locals)
    (hlen : As.length = n) (hst : st0 = As.reverse ++ rest) (hWr : (rest.map fun v => v.category).sum ≤ 8) (hdg : decode cc pc = .ok (.invokestatic idx, 3)) (isC isR : List Nat) (hnC : va_nd isC = true) (hC : isC.map (fun i => ws[i]?) = wc.map some) (hRr : isR.map (fun i => ws[i]?) = wr.map some) (hnR : va_nd isR = true) (hdis : ∀ i ∈ isR, i ∉ isC) (hf : cells + rm.cells ≤ R.cells ∧ slots + rm.slots ≤ R.slots)
    (kk : ∀ (u : S) (H1 : Heap) (locs1 : List Loc), post u → Wd D A s (wr ++ w1 u) H1 locs1 → W p l e R s m args below meth c H1 locs1 (cells + rm.cells) (slots + rm.slots) Q (F0 m (pc + 3) ls rest)) : W p l e R s m args below meth c H locs cells slots Q (F0 m pc ls st0) := by
  obtain ⟨hFc, hpre⟩ := hw.give hX cx isC hnC hC
  have cx' := cx
  obtain ⟨hx, hb, hr, hlk, hml, hown, hts, hK, hA, hXs, -⟩ := cx'
  exact va_callv (va_runS (As := As) (rest := rest) ⟨hx, hb, hml, hown, hts⟩ (hM H.size) (va_cwS n hts hg rfl rfl rfl hd hR) ⟨preW.blind hX, fun U hU hW => ⟨rfl, hpre U hU hW⟩⟩ rfl hlen hl hst (lv_room hWr) hdg hf) hw.2.2 (fun q _ h => hFc q h) hFc (fun u t H1 locs1 ht hvm hp hB hz hk hS1 => kk u H1 locs1 hp (hw.back isC isR hC hRr hnR hdis hFc ht hk hB hS1))
/-- a constructor -/
theorem x_NV {S : Type} {post : S → Prop} {w1 : S → va_W} {wc wr : va_W} {y : MethodName} {bytes : ByteArray} {maxL idx n : Nat} {rm : Room} {b : Nat} {st0 : List Value} (As : List Value) (hX : XOK X) (cx : Cx p s m args meth c X D d A own cc nL ret nm) (hw : Wd D A s ws H locs) (hl : ls.size = nL)
    (hM : MetV l y (ws_ y bytes maxL none) rm (.ref b :: As) X D d wc post w1) (hg : Cond.code y bytes maxL none ∈ lw_all) (hini : Cond.initialized y.cls ∈ lw_all) (hlink : Cond.methodLink own idx y ∈ lw_all) (hinst : Cond.instanceMethod y ∈ lw_all) (hy1 : y.name = "<init>") (hd : y.cls ≠ "java/lang/invoke/MethodHandle" ∧ y.cls ≠ "java/lang/invoke/VarHandle" ∧ (parseMethodDescriptor y.desc).map (fun d => d.parameters.length) = some n) (hR : rm.frames + 1 ≤ R.frames ∧ 8 + (maxL + 11) + rm.locals ≤ R.locals)
    (hlen : As.length = n) (hst : st0 = As.reverse ++ .ref b :: rest) (hWr : (rest.map fun v => v.category).sum ≤ 8) (hdg : decode cc pc = .ok (.invokespecial idx, 3)) (isC isR : List Nat) (hnC : va_nd isC = true) (hC : isC.map (fun i => ws[i]?) = wc.map some) (hRr : isR.map (fun i => ws[i]?) = wr.map some) (hnR : va_nd isR = true) (hdis : ∀ i ∈ isR, i ∉ isC) (hf : cells + rm.cells ≤ R.cells ∧ slots + rm.slots ≤ R.slots)
    (kk : ∀ (u : S) (H1 : Heap) (locs1 : List Loc), post u → Wd D A s (wr ++ w1 u) H1 locs1 → W p l e R s m args below meth c H1 locs1 (cells + rm.cells) (slots + rm.slots) Q (F0 m (pc + 3) ls rest)) : W p l e R s m args below meth c H locs cells slots Q (F0 m pc ls st0) := by
  obtain ⟨hFc, hpre⟩ := hw.give hX cx isC hnC hC
  have cx' := cx
  obtain ⟨hx, hb, hr, hlk, hml, hown, hts, hK, hA, hXs, -⟩ := cx'
  exact va_callv (va_runI (As := As) (rest := rest) ⟨hx, hb, hml, hown, hts⟩ (hM H.size) (cwI n hts (lw_meth hg) rfl rfl rfl (hts _ hini) (hts _ hlink) (hts _ hinst) hy1 hd hR) ⟨preW.blind hX, fun U hU hW => ⟨rfl, hpre U hU hW⟩⟩ rfl hlen hl hst (lv_room hWr) hdg hf) hw.2.2 (fun q _ h => hFc q h) hFc (fun u t H1 locs1 ht hvm hp hB hz hk hS1 => kk u H1 locs1 hp (hw.back isC isR hC hRr hnR hdis hFc ht hk hB hS1))
/-- invokevirtual, the method of the class itself; answer ref -/
theorem x_VR {S : Type} {post : S → Prop} {w1 : S → Nat → va_W} {wc wr : va_W} {y : MethodName} {bytes : ByteArray} {maxL idx n : Nat} {rt : Option FieldType} {rm : Room} {b : Nat} {C : String} {st0 : List Value} (As : List Value) (hX : XOK X) (cx : Cx p s m args meth c X D d A own cc nL ret nm) (hw : Wd D A s ws H locs) (hl : ls.size = nL)
    (hM : MetR l y (ws_ y bytes maxL rt) rm (.ref b :: As) X D d wc post w1) (hg : GoodIn lw_all (wsV own idx C y (ws_ y bytes maxL rt))) (hd : y.cls = C ∧ y.cls ≠ "java/lang/invoke/MethodHandle" ∧ y.cls ≠ "java/lang/invoke/VarHandle" ∧ (parseMethodDescriptor y.desc).map (fun d => d.parameters.length) = some n) (hR : rm.frames + 1 ≤ R.frames ∧ 8 + (maxL + 11) + rm.locals ≤ R.locals)
    (hrecv : ∃ cell : Cell, H[b]? = some cell ∧ cell.vm.isStatics = false ∧ s.vm.findClass C = some cell.cls) (hlen : As.length = n) (hst : st0 = As.reverse ++ .ref b :: rest) (hWr : (rest.map fun v => v.category).sum ≤ 8) (hdg : decode cc pc = .ok (.invokevirtual idx, 3)) (isC isR : List Nat) (hnC : va_nd isC = true) (hC : isC.map (fun i => ws[i]?) = wc.map some) (hRr : isR.map (fun i => ws[i]?) = wr.map some) (hnR : va_nd isR = true) (hdis : ∀ i ∈ isR, i ∉ isC) (hf : cells + rm.cells ≤ R.cells ∧ slots + rm.slots ≤ R.slots)
    (kk : ∀ (u : S) (ra : Nat) (H1 : Heap) (locs1 : List Loc), post u → Wd D A s (wr ++ w1 u ra) H1 locs1 → W p l e R s m args below meth c H1 locs1 (cells + rm.cells) (slots + rm.slots) Q (F0 m (pc + 3) ls (.ref ra :: rest))) : W p l e R s m args below meth c H locs cells slots Q (F0 m pc ls st0) := by
  obtain ⟨hFc, hpre⟩ := hw.give hX cx isC hnC hC
  have cx' := cx
  obtain ⟨hx, hb, hr, hlk, hml, hown, hts, hK, hA, hXs, -⟩ := cx'
  exact va_callr (va_runV (As := As) (rest := rest) ⟨hx, hb, hml, hown, hts⟩ (hM H.size) (cwV n hts hg rfl rfl rfl hd hR) ⟨preW.blind hX, hrecv, fun U hU hW => ⟨rfl, hpre U hU hW⟩⟩ rfl hlen hl hst (lv_room hWr) hdg hf) hw.2.2 (fun q _ h => hFc q h) hFc (fun u ra t H1 locs1 ht hvm hp hB hz hk hS1 => kk u ra H1 locs1 hp (hw.back isC isR hC hRr hnR hdis hFc ht hk hB hS1))
/-- invokestatic; answer ref -/
theorem x_SR {S : Type} {post : S → Prop} {w1 : S → Nat → va_W} {wc wr : va_W} {y : MethodName} {bytes : ByteArray} {maxL idx n : Nat} {rt : Option FieldType} {rm : Room} {st0 : List Value} (As : List Value) (hX : XOK X) (cx : Cx p s m args meth c X D d A own cc nL ret nm) (hw : Wd D A s ws H locs) (hl : ls.size = nL)
    (hM : MetR l y (ws_ y bytes maxL rt) rm As X D d wc post w1) (hg : GoodIn lw_all (va_wsS own idx y (ws_ y bytes maxL rt))) (hd : y.cls ≠ "java/lang/invoke/MethodHandle" ∧ y.cls ≠ "java/lang/invoke/VarHandle" ∧ (parseMethodDescriptor y.desc).map (fun d => d.parameters.length) = some n) (hR : rm.frames + 1 ≤ R.frames ∧ 8 + (maxL + 11) + rm.locals ≤ R.locals)
    (hlen : As.length = n) (hst : st0 = As.reverse ++ rest) (hWr : (rest.map fun v => v.category).sum ≤ 8) (hdg : decode cc pc = .ok (.invokestatic idx, 3)) (isC isR : List Nat) (hnC : va_nd isC = true) (hC : isC.map (fun i => ws[i]?) = wc.map some) (hRr : isR.map (fun i => ws[i]?) = wr.map some) (hnR : va_nd isR = true) (hdis : ∀ i ∈ isR, i ∉ isC) (hf : cells + rm.cells ≤ R.cells ∧ slots + rm.slots ≤ R.slots)
    (kk : ∀ (u : S) (ra : Nat) (H1 : Heap) (locs1 : List Loc), post u → Wd D A s (wr ++ w1 u ra) H1 locs1 → W p l e R s m args below meth c H1 locs1 (cells + rm.cells) (slots + rm.slots) Q (F0 m (pc + 3) ls (.ref ra :: rest))) : W p l e R s m args below meth c H locs cells slots Q (F0 m pc ls st0) := by
  obtain ⟨hFc, hpre⟩ := hw.give hX cx isC hnC hC
  have cx' := cx
  obtain ⟨hx, hb, hr, hlk, hml, hown, hts, hK, hA, hXs, -⟩ := cx'
  exact va_callr (va_runS (As := As) (rest := rest) ⟨hx, hb, hml, hown, hts⟩ (hM H.size) (va_cwS n hts hg rfl rfl rfl hd hR) ⟨preW.blind hX, fun U hU hW => ⟨rfl, hpre U hU hW⟩⟩ rfl hlen hl hst (lv_room hWr) hdg hf) hw.2.2 (fun q _ h => hFc q h) hFc (fun u ra t H1 locs1 ht hvm hp hB hz hk hS1 => kk u ra H1 locs1 hp (hw.back isC isR hC hRr hnR hdis hFc ht hk hB hS1))
/-- the known array class of an element type -/
theorem x_iald {q0 : Nat} {n : Nat} {f : Nat → Int32} {i v : Int32} (cx : Cx p s m args meth c X D d A own cc nL ret nm) (hw : Wd D A s ws H locs) (ha : ws[q0]? = some (a, .inl (d 0, n, .inl f))) (hv : rd f n i = some v) (hdg : decode cc pc = .ok (.iaload, 1))
    (kk : W p l e R s m args below meth c H locs cells slots Q (F0 m (pc + 1) ls (.int v :: rest))) : W p l e R s m args below meth c H locs cells slots Q (F0 m pc ls (.int i :: .ref a :: rest)) := by
  obtain ⟨hin, rfl⟩ := rd_spec hv
  exact va_iald cx.1 cx.2.1 cx.2.2.2.2.2.2.2.1 hw.1 q0 0 ha rfl hin hdg kk
theorem x_bald {q0 : Nat} {n : Nat} {f : Nat → Int32} {i v : Int32} (cx : Cx p s m args meth c X D d A own cc nL ret nm) (hw : Wd D A s ws H locs) (ha : ws[q0]? = some (a, .inl (d 1, n, .inl f))) (hv : rd f n i = some v) (hdg : decode cc pc = .ok (.baload, 1))
    (kk : W p l e R s m args below meth c H locs cells slots Q (F0 m (pc + 1) ls (.int v :: rest))) : W p l e R s m args below meth c H locs cells slots Q (F0 m pc ls (.int i :: .ref a :: rest)) := by
  obtain ⟨hin, rfl⟩ := rd_spec hv
  exact va_bald cx.1 cx.2.1 cx.2.2.2.2.2.2.2.1 hw.1 q0 1 ha rfl hin hdg kk
theorem x_zald {q0 : Nat} {n : Nat} {f : Nat → Int32} {i v : Int32} (cx : Cx p s m args meth c X D d A own cc nL ret nm) (hw : Wd D A s ws H locs) (ha : ws[q0]? = some (a, .inl (d 2, n, .inl f))) (hv : rd f n i = some v) (hdg : decode cc pc = .ok (.baload, 1))
    (kk : W p l e R s m args below meth c H locs cells slots Q (F0 m (pc + 1) ls (.int v :: rest))) : W p l e R s m args below meth c H locs cells slots Q (F0 m pc ls (.int i :: .ref a :: rest)) := by
  obtain ⟨hin, rfl⟩ := rd_spec hv
  exact va_zald cx.1 cx.2.1 cx.2.2.2.2.2.2.2.1 hw.1 q0 2 ha rfl hin hdg kk
theorem x_iast {q0 : Nat} {n : Nat} {f g : Nat → Int32} {i x : Int32} (cx : Cx p s m args meth c X D d A own cc nL ret nm) (hw : Wd D A s ws H locs) (ha : ws[q0]? = some (a, .inl (d 0, n, .inl f))) (hv : wr f n i x = some g) (hdg : decode cc pc = .ok (.iastore, 1))
    (kk : ∀ (H1 : Heap) (locs1 : List Loc), Wd D A s (ws.set q0 (a, .inl (d 0, n, .inl g))) H1 locs1 → W p l e R s m args below meth c H1 locs1 cells slots Q (F0 m (pc + 1) ls rest)) : W p l e R s m args below meth c H locs cells slots Q (F0 m pc ls (.int x :: .int i :: .ref a :: rest)) := by
  obtain ⟨hin, rfl⟩ := wr_spec hv
  exact va_iast cx.1 cx.2.1 cx.2.2.2.2.2.2.2.1 hw.1 hw.2.1 hw.2.2 q0 0 ha rfl hin hdg (fun H1 locs1 h1 h2 h3 => kk H1 locs1 ⟨h1, h2, h3⟩)
theorem x_bast {q0 : Nat} {n : Nat} {f g : Nat → Int32} {i x : Int32} (cx : Cx p s m args meth c X D d A own cc nL ret nm) (hw : Wd D A s ws H locs) (ha : ws[q0]? = some (a, .inl (d 1, n, .inl f))) (hv : wrB f n i x = some g) (hdg : decode cc pc = .ok (.bastore, 1))
    (kk : ∀ (H1 : Heap) (locs1 : List Loc), Wd D A s (ws.set q0 (a, .inl (d 1, n, .inl g))) H1 locs1 → W p l e R s m args below meth c H1 locs1 cells slots Q (F0 m (pc + 1) ls rest)) : W p l e R s m args below meth c H locs cells slots Q (F0 m pc ls (.int x :: .int i :: .ref a :: rest)) := by
  obtain ⟨hin, rfl⟩ := wrB_spec hv
  exact va_bast cx.1 cx.2.1 cx.2.2.2.2.2.2.2.1 hw.1 hw.2.1 hw.2.2 q0 1 ha rfl hin hdg (fun H1 locs1 h1 h2 h3 => kk H1 locs1 ⟨h1, h2, h3⟩)
theorem x_zast {q0 : Nat} {n : Nat} {f g : Nat → Int32} {i x : Int32} (cx : Cx p s m args meth c X D d A own cc nL ret nm) (hw : Wd D A s ws H locs) (ha : ws[q0]? = some (a, .inl (d 2, n, .inl f))) (hv : wrZ f n i x = some g) (hdg : decode cc pc = .ok (.bastore, 1))
    (kk : ∀ (H1 : Heap) (locs1 : List Loc), Wd D A s (ws.set q0 (a, .inl (d 2, n, .inl g))) H1 locs1 → W p l e R s m args below meth c H1 locs1 cells slots Q (F0 m (pc + 1) ls rest)) : W p l e R s m args below meth c H locs cells slots Q (F0 m pc ls (.int x :: .int i :: .ref a :: rest)) := by
  obtain ⟨hin, rfl⟩ := wrZ_spec hv
  exact va_zast cx.1 cx.2.1 cx.2.2.2.2.2.2.2.1 hw.1 hw.2.1 hw.2.2 q0 2 ha rfl hin hdg (fun H1 locs1 h1 h2 h3 => kk H1 locs1 ⟨h1, h2, h3⟩)
theorem x_idiv {x y : Int32} {u : Unit} (cx : Cx p s m args meth c X D d A own cc nL ret nm) (hv : gnz y = some u) (hdg : decode cc pc = .ok (.idiv, 1))
    (kk : W p l e R s m args below meth c H locs cells slots Q (F0 m (pc + 1) ls (.int (x / y) :: rest))) : W p l e R s m args below meth c H locs cells slots Q (F0 m pc ls (.int y :: .int x :: rest)) := lv_idiv cx.1 cx.2.1 hdg (gnz_spec hv) kk
theorem x_irem {x y : Int32} {u : Unit} (cx : Cx p s m args meth c X D d A own cc nL ret nm) (hv : gnz y = some u) (hdg : decode cc pc = .ok (.irem, 1))
    (kk : W p l e R s m args below meth c H locs cells slots Q (F0 m (pc + 1) ls (.int (x - x / y * y) :: rest))) : W p l e R s m args below meth c H locs cells slots Q (F0 m pc ls (.int y :: .int x :: rest)) := lv_irem cx.1 cx.2.1 hdg (gnz_spec hv) kk
theorem x_ldiv {x y : Int64} {u : Unit} (cx : Cx p s m args meth c X D d A own cc nL ret nm) (hv : gnzL y = some u) (hdg : decode cc pc = .ok (.ldiv, 1))
    (kk : W p l e R s m args below meth c H locs cells slots Q (F0 m (pc + 1) ls (.long (x / y) :: rest))) : W p l e R s m args below meth c H locs cells slots Q (F0 m pc ls (.long y :: .long x :: rest)) := lv_ldiv cx.1 cx.2.1 hdg (gnzL_spec hv) kk
theorem x_lrem {x y : Int64} {u : Unit} (cx : Cx p s m args meth c X D d A own cc nL ret nm) (hv : gnzL y = some u) (hdg : decode cc pc = .ok (.lrem, 1))
    (kk : W p l e R s m args below meth c H locs cells slots Q (F0 m (pc + 1) ls (.long (x - x / y * y) :: rest))) : W p l e R s m args below meth c H locs cells slots Q (F0 m pc ls (.long y :: .long x :: rest)) := lv_lrem cx.1 cx.2.1 hdg (gnzL_spec hv) kk
end XROWS

