/-! BASE 3: new arrays with the known array classes -/
set_option maxRecDepth 100000
theorem prim_same {D : va_G} {d : Nat → ClassId} {s : State} {cA : ClassId} (k : Nat) {ty : FieldType} (hk : (tyA d)[k]? = some (d k, ty)) (hK : va_K D vwCl (tyA d) s) (hK' : va_K D vwCl (tyA d ++ [(cA, ty)]) s) (ho : ∀ c : ClassId, va_RA s c ty → s.vm.findClass ("[" ++ ty.toString) = some c) : cA = d k := by
  have h1 := ho _ (hK.2 k _ hk).2
  have h2 := ho _ (hK'.2 7 (cA, ty) rfl).2
  exact Option.some.inj (h2.symm.trans h1)
theorem obj_same {C : String} {s : State} (c : ClassId) (h : va_RA s c (.object C)) : s.vm.findClass ("[" ++ (FieldType.object C).toString) = some c := by
  obtain ⟨kA, comp, h1, h2, h3, h4⟩ := h
  exact h4
section XN
variable {p : Program} {l : Launch} {e : Env} {R : Room} {s : State} {m : MethodId} {args : Array Value} {below : List Frame} {meth : Method} {c : Code} {H : Heap} {locs : List Loc} {cells slots : Nat} {Q : State → Prop}
variable {cc : ByteArray} {pc : Nat} {ls : Array Slot} {rest : List Value} {X : XT} {D : va_G} {d : Nat → ClassId} {A : Nat → Prop} {a : Nat} {ws : va_W} {own nm : String} {nL : Nat} {ret : Option FieldType}
theorem x_newi {n : Int32} {N : Nat} (cx : Cx p s m args meth c X D d A own cc nL ret nm) (hw : Wd D A s ws H locs) (hn : ¬ n < 0) (hN : n.toNatClampNeg = N) (hbytes : N * 4 ≤ 536870912) (hcells : cells + 1 ≤ R.cells) (hslots : slots + N ≤ R.slots) (hdg : decode cc pc = .ok (.newarray .int, 2))
    (kk : ∀ (q : Nat) (H1 : Heap), Wd D A s (ws ++ [(q, .inl (d 0, N, .inl (fun _ => 0)))]) H1 locs → W p l e R s m args below meth c H1 locs (cells + 1) (slots + N) Q (F0 m (pc + 2) ls (.ref q :: rest))) : W p l e R s m args below meth c H locs cells slots Q (F0 m pc ls (.int n :: rest)) := by
  have cx' := cx
  obtain ⟨hx, hb, hr, hlk, hml, hown, hts, hK, hA, hXs, -⟩ := cx'
  refine va_newa (atype := .int) (ty := .int) (a0 := (N, .inl (fun _ => 0))) hx hb (hts _ q230) rfl hK hw.1 hw.2.1 hw.2.2 hA (fun _ => rfl) hn hN hbytes hcells hslots hdg (fun q cA H1 hK1 hP hD hS => ?_)
  have e : cA = d 0 := prim_same 0 rfl hK hK1 (fun _ h => h)
  subst e
  exact kk q H1 ⟨hP, hD, hS⟩
theorem x_newb {n : Int32} {N : Nat} (cx : Cx p s m args meth c X D d A own cc nL ret nm) (hw : Wd D A s ws H locs) (hn : ¬ n < 0) (hN : n.toNatClampNeg = N) (hbytes : N * 1 ≤ 536870912) (hcells : cells + 1 ≤ R.cells) (hslots : slots + N ≤ R.slots) (hdg : decode cc pc = .ok (.newarray .byte, 2))
    (kk : ∀ (q : Nat) (H1 : Heap), Wd D A s (ws ++ [(q, .inl (d 1, N, .inl (fun _ => 0)))]) H1 locs → W p l e R s m args below meth c H1 locs (cells + 1) (slots + N) Q (F0 m (pc + 2) ls (.ref q :: rest))) : W p l e R s m args below meth c H locs cells slots Q (F0 m pc ls (.int n :: rest)) := by
  have cx' := cx
  obtain ⟨hx, hb, hr, hlk, hml, hown, hts, hK, hA, hXs, -⟩ := cx'
  refine va_newa (atype := .byte) (ty := .byte) (a0 := (N, .inl (fun _ => 0))) hx hb (hts _ q157) rfl hK hw.1 hw.2.1 hw.2.2 hA (fun _ => rfl) hn hN hbytes hcells hslots hdg (fun q cA H1 hK1 hP hD hS => ?_)
  have e : cA = d 1 := prim_same 1 rfl hK hK1 (fun _ h => h)
  subst e
  exact kk q H1 ⟨hP, hD, hS⟩
theorem x_newz {n : Int32} {N : Nat} (cx : Cx p s m args meth c X D d A own cc nL ret nm) (hw : Wd D A s ws H locs) (hn : ¬ n < 0) (hN : n.toNatClampNeg = N) (hbytes : N * 1 ≤ 536870912) (hcells : cells + 1 ≤ R.cells) (hslots : slots + N ≤ R.slots) (hdg : decode cc pc = .ok (.newarray .boolean, 2))
    (kk : ∀ (q : Nat) (H1 : Heap), Wd D A s (ws ++ [(q, .inl (d 2, N, .inl (fun _ => 0)))]) H1 locs → W p l e R s m args below meth c H1 locs (cells + 1) (slots + N) Q (F0 m (pc + 2) ls (.ref q :: rest))) : W p l e R s m args below meth c H locs cells slots Q (F0 m pc ls (.int n :: rest)) := by
  have cx' := cx
  obtain ⟨hx, hb, hr, hlk, hml, hown, hts, hK, hA, hXs, -⟩ := cx'
  refine va_newa (atype := .boolean) (ty := .boolean) (a0 := (N, .inl (fun _ => 0))) hx hb (hts _ q1306) rfl hK hw.1 hw.2.1 hw.2.2 hA (fun _ => rfl) hn hN hbytes hcells hslots hdg (fun q cA H1 hK1 hP hD hS => ?_)
  have e : cA = d 2 := prim_same 2 rfl hK hK1 (fun _ h => h)
  subst e
  exact kk q H1 ⟨hP, hD, hS⟩
theorem x_newq {C : String} {k idx : Nat} {n : Int32} {N : Nat} (hk : (tyA d)[k]? = some (d k, .object C)) (hT : Tb s) (ho : Cond.arrayOver (.object C) ∈ lw_tbl) (hlink : Cond.classLink own idx C ∈ lw_all) (cx : Cx p s m args meth c X D d A own cc nL ret nm) (hw : Wd D A s ws H locs) (hn : ¬ n < 0) (hN : n.toNatClampNeg = N) (hbytes : N * 4 ≤ 536870912) (hcells : cells + 1 ≤ R.cells) (hslots : slots + N ≤ R.slots) (hdg : decode cc pc = .ok (.anewarray idx, 3))
    (kk : ∀ (q : Nat) (H1 : Heap), Wd D A s (ws ++ [(q, .inl (d k, N, .inr (.inr (.inr (.inr (fun _ => none))))))]) H1 locs → W p l e R s m args below meth c H1 locs (cells + 1) (slots + N) Q (F0 m (pc + 3) ls (.ref q :: rest))) : W p l e R s m args below meth c H locs cells slots Q (F0 m pc ls (.int n :: rest)) := by
  have cx' := cx
  obtain ⟨hx, hb, hr, hlk, hml, hown, hts, hK, hA, hXs, -⟩ := cx'
  refine va_newq hx hb hown (hts _ hlink) (Tb.over ho hT) hK hw.1 hw.2.1 hw.2.2 hA hn hN hbytes hcells hslots hdg (fun q cA H1 hK1 hP hD hS => ?_)
  have e : cA = d k := prim_same k hk hK hK1 obj_same
  subst e
  exact kk q H1 ⟨hP, hD, hS⟩
end XN
theorem zq_val {C n dd : String} {A : Nat → Prop} {U : State} {H : Heap} (h : va_Zq C n dd A U H) : ∃ o : Option Nat, va_Z C n dd (va_rf o) A U H := by
  rcases h with h | ⟨t, h⟩
  · exact ⟨none, h⟩
  · exact ⟨some t, h⟩
