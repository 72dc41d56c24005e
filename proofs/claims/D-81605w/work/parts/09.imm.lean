/-! IMMUTABLE CELLS, TABLES, STATICS: what a method of the system knows and nobody writes -/
set_option maxRecDepth 100000
/-- the claim's start, somewhere behind -/
def Tb (U : State) : Prop := ∃ (s0 : State) (b0 : Nat), s0.WarmedH U.vm ∧ (∀ w ∈ lw_tbl, w.before #[Value.ref b0] s0 = true) ∧ (Jvm.Cond.and given_1 narrow_1).before #[Value.ref b0] s0 = true ∧ modulesRight_1 s0 = true
theorem Tb.moved {u U : State} (h : u.WarmedH U.vm ∨ u.vm = U.vm) (hT : Tb u) : Tb U := by
  obtain ⟨s0, b0, h1, h2⟩ := hT
  refine ⟨s0, b0, ?_, h2⟩
  rcases h with h | h
  · exact State.WarmedH.trans h1 h
  · rw [← h]; exact h1
/-- statics of the JDK that are read; the text of the kinds' letters -/
def Sta (cs : Nat → Nat) (A : Nat → Prop) (U : State) (H : Heap) : Prop := va_Z "java/util/ArrayList" "DEFAULTCAPACITY_EMPTY_ELEMENTDATA" "[Ljava/lang/Object;" (.ref (cs 0)) A U H ∧ va_Zq "java/lang/Throwable" "UNASSIGNED_STACK" "[Ljava/lang/StackTraceElement;" A U H ∧ va_Zq "java/lang/Throwable" "SUPPRESSED_SENTINEL" "Ljava/util/List;" A U H ∧ va_Z "java/lang/String" "COMPACT_STRINGS" "Z" (.int 1) A U H ∧ va_Zq "jdk/internal/util/Preconditions" "SIOOBE_FORMATTER" "Ljava/util/function/BiFunction;" A U H ∧ vk_R "DishLift$Reader" 104 "hsrci" (cs 1) U
theorem Sta.moved {cs : Nat → Nat} {A : Nat → Prop} {u U : State} {H : Heap} (h : u.WarmedH U.vm ∨ u.vm = U.vm) (hS : Sta cs A u H) : Sta cs A U H := by
  have ha : u.vm.Alike U.vm := by
    rcases h with h | h
    · exact h.alike
    · rw [h]; exact Vm.Alike.refl _
  obtain ⟨h1, h2, h3, h4, h6, h5⟩ := hS
  refine ⟨h1.moved ha, h2.moved ha, h3.moved ha, h4.moved ha, h6.moved ha, ?_⟩
  rcases h with h | h
  · exact vk_R.warm h h5
  · exact vk_R.same h.symm h5
theorem Sta.kept {cs : Nat → Nat} {A : Nat → Prop} {U : State} {H H1 : Heap} (hS : Sta cs A U H) (hq : ∀ a : Nat, a < H.size → ¬ A a → H1[a]? = H[a]?) : Sta cs A U H1 := by
  obtain ⟨h1, h2, h3, h4, h6, h5⟩ := hS
  exact ⟨h1.kept hq, h2.kept hq, h3.kept hq, h4.kept hq, h6.kept hq, h5⟩
theorem Sta.narrow {cs : Nat → Nat} {A B : Nat → Prop} {U : State} {H : Heap} (hS : Sta cs A U H) (hAB : ∀ q, B q → A q) : Sta cs B U H := by
  obtain ⟨h1, h2, h3, h4, h6, h5⟩ := hS
  exact ⟨h1.narrow hAB, h2.narrow hAB, h3.narrow hAB, h4.narrow hAB, h6.narrow hAB, h5⟩
/-- the text of the kinds' letters; the empty array of ArrayList -/
def StS (cs : Nat → Nat) (A : Nat → Prop) (U : State) (H : Heap) : Prop := vk_S 1 [5] [[104, 115, 114, 99, 105]] (fun _ => cs 1) (fun _ => cs 2) A U H ∧ va_T (.object "java/lang/Object") (cs 0) 0 (fun _ => .null) A U H
theorem StS.moved {cs : Nat → Nat} {A : Nat → Prop} {u U : State} {H : Heap} (h : u.WarmedH U.vm ∨ u.vm = U.vm) (hS : StS cs A u H) : StS cs A U H := by
  have ha : u.vm.Alike U.vm := by
    rcases h with h | h
    · exact h.alike
    · rw [h]; exact Vm.Alike.refl _
  exact ⟨vk_S.moved ha hS.1, va_T.moved ha hS.2⟩
theorem StS.kept {cs : Nat → Nat} {A : Nat → Prop} {U : State} {H H1 : Heap} (hS : StS cs A U H) (hq : ∀ a : Nat, a < H.size → ¬ A a → H1[a]? = H[a]?) : StS cs A U H1 := ⟨vk_S.kept hS.1 hq, va_T.kept hS.2 hq⟩
theorem StS.narrow {cs : Nat → Nat} {A B : Nat → Prop} {U : State} {H : Heap} (hS : StS cs A U H) (hAB : ∀ q, B q → A q) : StS cs B U H := ⟨vk_S.narrow hS.1 hAB, va_T.narrow hS.2 hAB⟩
def XI (D : va_G) (cs : Nat → Nat) (wi : va_W) : XT := fun A U H => Tb U ∧ Sta cs A U H ∧ va_P D vwCl wi H ∧ (∀ q ∈ wi, ¬ A q.1) ∧ StS cs A U H
theorem XI.ok {D : va_G} {cs : Nat → Nat} {wi : va_W} : XOK (XI D cs wi) := by
  refine ⟨fun A u U H h hX => ?_, fun A U H H1 hX hq => ?_, fun A B U H hX hAB => ?_⟩
  · exact ⟨hX.1.moved h, hX.2.1.moved h, hX.2.2.1, hX.2.2.2.1, hX.2.2.2.2.moved h⟩
  · obtain ⟨h1, h2, h3, h4, h5⟩ := hX
    exact ⟨h1, h2.kept hq, h3.kept (fun k q hk => hq q.1 ((h3 k q hk).lt) (h4 q (List.mem_of_getElem? hk))), h4, h5.kept hq⟩
  · obtain ⟨h1, h2, h3, h4, h5⟩ := hX
    exact ⟨h1, h2.narrow hAB, h3, fun q hq hB => h4 q hq (hAB _ hB), h5.narrow hAB⟩
section XIS
variable {D : va_G} {cs : Nat → Nat} {wi : va_W} {A : Nat → Prop} {s : State} {H : Heap} {locs : List Loc}
theorem XI.sC (h : XI D cs wi A s s.heap) : va_OF "java/lang/String" "coder" "B" (.int 0) (cs 1) A s s.heap := (h.2.2.2.2.1.1 0 (by decide)).2.1
theorem XI.sV (h : XI D cs wi A s s.heap) : va_OF "java/lang/String" "value" "[B" (.ref (cs 2)) (cs 1) A s s.heap := (h.2.2.2.2.1.1 0 (by decide)).2.2.1
theorem XI.sT (h : XI D cs wi A s s.heap) : va_T .byte (cs 2) 5 (fun j => .int (([104, 115, 114, 99, 105] : List Int32).getD j 0)) A s s.heap := (h.2.2.2.2.1.1 0 (by decide)).2.2.2
theorem XI.eT (h : XI D cs wi A s s.heap) : va_T (.object "java/lang/Object") (cs 0) 0 (fun _ => .null) A s s.heap := h.2.2.2.2.2
theorem XI.sR (h : XI D cs wi A s s.heap) (hS : va_S A s.heap H locs) : ∃ cell : Cell, H[cs 1]? = some cell ∧ cell.vm.isStatics = false ∧ s.vm.findClass "java/lang/String" = some cell.cls := vk_recv h.2.2.2.2.1 (i := 0) (by decide) hS
end XIS
theorem XI.at {D : va_G} {cs : Nat → Nat} {wi ws : va_W} {A : Nat → Prop} {s : State} {H : Heap} {locs : List Loc} (hX : XI D cs wi A s s.heap) (hw : Wd D A s ws H locs) : va_P D vwCl wi H := (XI.ok.2.1 _ _ _ _ hX hw.2.2.2.1).2.2.1
/-- the lists and the dishes: sizes, elements, kinds, numbers; they stand among the immutable cells -/
def ImF (d : Nat → ClassId) (wi : va_W) (ln : Nat → Option Int32) (lf : Nat → Nat → Option Nat) (dk : Nat → Option Nat) (dn : Nat → Int32) : Prop :=
  (∀ (la : Nat) (N : Int32), ln la = some N → ∃ (mc : Int32) (ea cap : Nat), (la, .inr (3, [.int mc, .ref ea, .int N])) ∈ wi ∧ (¬ N = 0 → (ea, .inl (d 6, cap, .inr (.inr (.inr (.inr (lf la)))))) ∈ wi) ∧ (¬ N = 0 → N.toNatClampNeg ≤ cap) ∧ ¬ N < 0) ∧
  (∀ (a k : Nat), dk a = some k → k < 5 ∧ (a, .inr (5 + k, [.int (dn a)])) ∈ wi)
/-- List.get of a known list -/
def lget (ln : Nat → Option Int32) (lf : Nat → Nat → Option Nat) (la : Nat) (i : Int32) : Option Nat := (ln la).bind fun n => if i < 0 then none else if i < n then lf la i.toNatClampNeg else none
theorem Wd.back0 {D : va_G} {A : Nat → Prop} {s : State} {ws : va_W} {H H1 : Heap} {locs locs1 : List Loc} (hw : Wd D A s ws H locs) (hk : ∀ q : Nat, q < H.size → ¬ va_A [] H.size q → H1[q]? = H[q]?) (hS : va_S A s.heap H1 locs1) : Wd D A s ws H1 locs1 := by
  refine ⟨hw.1.kept (fun k q hq => ?_), hw.2.1, hS⟩
  have h1 : q.1 < H.size := (hw.1 k q hq).lt
  refine hk q.1 h1 (fun h => ?_)
  rcases h with ⟨j, e, h⟩ | h
  · exact absurd h (by simp)
  · exact absurd h1 (Nat.not_lt.mpr h)
theorem dish_recv {D : va_G} {d : Nat → ClassId} {cs : Nat → Nat} {wi ws : va_W} {A : Nat → Prop} {s : State} {H : Heap} {locs : List Loc} {ci a : Nat} {fs : List Value} {q : vw_C} (hX : XI D cs wi A s s.heap) (hK : va_K D vwCl (tyA d) s) (hw : Wd D A s ws H locs) (hm : (a, .inr (ci, fs)) ∈ wi) (hc : vwCl[ci]? = some q) : ∃ cell : Cell, H[a]? = some cell ∧ cell.vm.isStatics = false ∧ s.vm.findClass q.1 = some cell.cls := by
  obtain ⟨k0, hk0⟩ := List.getElem?_of_mem hm
  exact va_recv hK (XI.at hX hw) hc hk0
section XVU
variable {p : Program} {l : Launch} {e : Env} {R : Room} {s : State} {m : MethodId} {args : Array Value} {below : List Frame} {meth : Method} {c : Code} {H : Heap} {locs : List Loc} {cells slots : Nat} {Q : State → Prop}
variable {cc : ByteArray} {pc : Nat} {ls : Array Slot} {rest : List Value} {X : XT} {D : va_G} {d : Nat → ClassId} {A : Nat → Prop} {a : Nat} {ws : va_W} {own nm : String} {nL : Nat} {ret : Option FieldType}
/-- invokevirtual of an inherited, overriding or abstract name; the callee has no world -/
theorem x_UI0 {S : Type} {post : Int32 → S → Prop} {w1 : S → va_W} {x y : MethodName} {bytes : ByteArray} {maxL idx n : Nat} {rt : Option FieldType} {rm : Room} {b : Nat} {C owner : String} {st0 : List Value} (As : List Value) (hX : XOK X) (cx : Cx p s m args meth c X D d A own cc nL ret nm) (hw : Wd D A s ws H locs) (hl : ls.size = nL)
    (hM : MetI l y (ws_ y bytes maxL rt) rm (.ref b :: As) X D d [] post w1) (hcw : va_CU R s args own C owner idx x y bytes maxL rt (ws_ y bytes maxL rt) rm rm.cells rm.slots n)
    (hrecv : ∃ cell : Cell, H[b]? = some cell ∧ cell.vm.isStatics = false ∧ s.vm.findClass C = some cell.cls) (hlen : As.length = n) (hst : st0 = As.reverse ++ .ref b :: rest) (hWr : (rest.map fun v => v.category).sum ≤ 8) (hdg : decode cc pc = .ok (.invokevirtual idx, 3)) (hf : cells + rm.cells ≤ R.cells ∧ slots + rm.slots ≤ R.slots)
    (kk : ∀ (r : Int32) (u : S) (H1 : Heap) (locs1 : List Loc), post r u → Wd D A s ws H1 locs1 → W p l e R s m args below meth c H1 locs1 (cells + rm.cells) (slots + rm.slots) Q (F0 m (pc + 3) ls (.int r :: rest))) : W p l e R s m args below meth c H locs cells slots Q (F0 m pc ls st0) := by
  obtain ⟨hFc, hpre⟩ := hw.give (wc := []) hX cx [] rfl rfl
  have cx' := cx
  obtain ⟨hx, hb, hr, hlk, hml, hown, hts, hK, hA, hXs, -⟩ := cx'
  exact va_calli (va_runU (As := As) (rest := rest) ⟨hx, hb, hml, hown, hts⟩ (hM H.size) hcw ⟨preW.blind hX, hrecv, fun U hU hW => ⟨rfl, hpre U hU hW⟩⟩ rfl hlen hl hst (lv_room hWr) hdg hf) hw.2.2 (fun q _ h => hFc q h) hFc (fun r u t H1 locs1 ht hvm hp hB hz hk hS1 => kk r u H1 locs1 hp (hw.back0 hk hS1))
end XVU
