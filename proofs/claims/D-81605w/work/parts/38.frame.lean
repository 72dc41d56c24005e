/-! BASE 9: contracts in a wider world -/
set_option maxRecDepth 100000
theorem va_Pm {D : va_G} {cl : List vw_C} {ws : va_W} {H : Heap} : va_P D cl ws H ↔ ∀ q ∈ ws, va_at D cl q H :=
  ⟨fun h q hq => (List.getElem?_of_mem hq).elim fun k hk => h k q hk, fun h k q hk => h q (List.mem_of_getElem? hk)⟩
def apw (ws : va_W) : Prop := ws.Pairwise (fun p q => p.1 ≠ q.1)
theorem apw.perm {ws ws' : va_W} (hp : ws.Perm ws') (h : apw ws) : apw ws' := (List.Perm.pairwise_iff (fun {_ _} h => Ne.symm h) hp).mp h
theorem va_Dm {A : Nat → Prop} {ws : va_W} : va_D A ws ↔ apw ws ∧ ∀ q ∈ ws, A q.1 := by
  constructor
  · intro h
    refine ⟨List.pairwise_iff_getElem.mpr (fun i j hi hj hij e => ?_), fun q hq => (List.getElem?_of_mem hq).elim fun k hk => h.2 k q hk⟩
    have := h.1 i j _ _ (List.getElem?_eq_getElem hi) (List.getElem?_eq_getElem hj) e
    omega
  · intro h
    refine ⟨fun i j p q hi hj e => ?_, fun k q hk => h.2 q (List.mem_of_getElem? hk)⟩
    have h1 := List.pairwise_iff_getElem.mp h.1
    obtain ⟨a1, rfl⟩ := List.getElem?_eq_some_iff.mp hi
    obtain ⟨a2, rfl⟩ := List.getElem?_eq_some_iff.mp hj
    rcases Nat.lt_trichotomy i j with g | g | g
    · exact absurd e (h1 i j a1 a2 g)
    · exact g
    · exact absurd e.symm (h1 j i a2 a1 g)
theorem va_Am {ws : va_W} {sz q : Nat} : va_A ws sz q ↔ (∃ e : va_E, (q, e) ∈ ws) ∨ sz ≤ q := by
  constructor
  · rintro (⟨k, e, h⟩ | h)
    · exact Or.inl ⟨e, List.mem_of_getElem? h⟩
    · exact Or.inr h
  · rintro (⟨e, h⟩ | h)
    · obtain ⟨k, hk⟩ := List.getElem?_of_mem h
      exact Or.inl ⟨k, e, hk⟩
    · exact Or.inr h
section FR
variable {D : va_G} {d : Nat → ClassId} {X X' : XT} {ws wc wr : va_W} {sz : Nat} {U : State}
theorem fr_inc (hp : ws.Perm (wc ++ wr)) {q : Nat} (h : va_A wc sz q) : va_A ws sz q := by
  rcases va_Am.mp h with ⟨e, h⟩ | h
  · exact va_Am.mpr (Or.inl ⟨e, hp.mem_iff.mpr (List.mem_append.mpr (Or.inl h))⟩)
  · exact Or.inr h
theorem fr_apart (h : preW X D d ws sz U) (hp : ws.Perm (wc ++ wr)) {q : Nat × va_E} (hq : q ∈ wr) : q.1 < sz ∧ ¬ va_A wc sz q.1 := by
  obtain ⟨h1, h2, h3, h4, -⟩ := h
  have hlt : q.1 < sz := by rw [← h1]; exact (va_Pm.mp h2 q (hp.mem_iff.mpr (List.mem_append.mpr (Or.inr hq)))).lt
  refine ⟨hlt, fun ha => ?_⟩
  rcases va_Am.mp ha with ⟨e, ha⟩ | ha
  · have h5 := List.pairwise_append.mp ((va_Dm.mp h4).1.perm hp)
    exact h5.2.2 _ ha _ hq rfl
  · omega
theorem fr_core (h : preW X D d ws sz U) (hp : ws.Perm (wc ++ wr)) (hX : X' (va_A wc sz) U U.heap) : preW X' D d wc sz U := by
  obtain ⟨h1, h2, h3, h4, -⟩ := h
  refine ⟨h1, va_Pm.mpr (fun q hq => va_Pm.mp h2 q (hp.mem_iff.mpr (List.mem_append.mpr (Or.inl hq)))), h3, va_Dm.mpr ⟨?_, fun _ _ => trivial⟩, hX⟩
  exact (List.pairwise_append.mp ((va_Dm.mp h4).1.perm hp)).1
theorem fr_back (h : preW X D d ws sz U) (hp : ws.Perm (wc ++ wr)) {w1 w2 g : va_W} (hg : (w1 ++ wr).Perm (w2 ++ g)) {t : State} (hB : posW D w1 (va_A wc sz) t) (hF : va_F (va_A wc sz) U t) : posW D w2 (va_A ws sz) t ∧ va_F (va_A ws sz) U t := by
  have hB1 := va_Pm.mp hB.1
  obtain ⟨hB2, hB3⟩ := va_Dm.mp hB.2
  have hall : ∀ q ∈ w1 ++ wr, va_at D vwCl q t.heap := by
    intro q hq
    rcases List.mem_append.mp hq with hq | hq
    · exact hB1 q hq
    · obtain ⟨a1, a2⟩ := fr_apart h hp hq
      exact (va_Pm.mp h.2.1 q (hp.mem_iff.mpr (List.mem_append.mpr (Or.inr hq)))).kept (hF.2 q.1 (by rw [h.1]; exact a1) a2)
  have hapw : apw (w1 ++ wr) := by
    refine List.pairwise_append.mpr ⟨hB2, (List.pairwise_append.mp ((va_Dm.mp h.2.2.2.1).1.perm hp)).2.1, fun a ha b hb e => ?_⟩
    have := hB3 a ha
    rw [e] at this
    exact (fr_apart h hp hb).2 this
  have hin : ∀ q ∈ w1 ++ wr, va_A ws sz q.1 := by
    intro q hq
    rcases List.mem_append.mp hq with hq | hq
    · exact fr_inc hp (hB3 q hq)
    · exact va_Am.mpr (Or.inl ⟨q.2, hp.mem_iff.mpr (List.mem_append.mpr (Or.inr hq))⟩)
  have hsub : ∀ q ∈ w2, q ∈ w1 ++ wr := fun q hq => hg.mem_iff.mpr (List.mem_append.mpr (Or.inl hq))
  exact ⟨⟨va_Pm.mpr (fun q hq => hall q (hsub q hq)), va_Dm.mpr ⟨(List.pairwise_append.mp (hapw.perm hg)).1, fun q hq => hin q (hsub q hq)⟩⟩, hF.1, fun q hq hn => hF.2 q hq (fun h => hn (fr_inc hp h))⟩
theorem XI.fr {cs : Nat → Nat} {wa wi : va_W} (hp : ws.Perm (wc ++ wr)) (hi : ∀ q ∈ wi, q ∈ wa ∨ q ∈ wr) (U : State) (sz : Nat) (h : preW (XI D cs wa) D d ws sz U) : XI D cs wi (va_A wc sz) U U.heap := by
  have hXs := h.2.2.2.2
  refine ⟨hXs.1, hXs.2.1.narrow (fun q hq => fr_inc hp hq), va_Pm.mpr (fun q hq => ?_), fun q hq => ?_, hXs.2.2.2.2.narrow (fun q hq => fr_inc hp hq)⟩
  · rcases hi q hq with g | g
    · exact va_Pm.mp hXs.2.2.1 q g
    · exact va_Pm.mp h.2.1 q (hp.mem_iff.mpr (List.mem_append.mpr (Or.inr g)))
  · rcases hi q hq with g | g
    · exact fun ha => hXs.2.2.2.1 q g (fr_inc hp ha)
    · exact (fr_apart h hp g).2
theorem XOK.fr (hX : XOK X) (hp : ws.Perm (wc ++ wr)) (U : State) (sz : Nat) (h : preW X D d ws sz U) : X (va_A wc sz) U U.heap := hX.2.2 _ _ _ _ h.2.2.2.2 (fun q hq => fr_inc hp hq)
end FR
theorem MetI.fr {S S2 : Type} {l : Launch} {y : MethodName} {wy : List Cond} {rm : Room} {av : List Value} {X X' : XT} {D : va_G} {d : Nat → ClassId} {ws wc wr : va_W} {post : Int32 → S → Prop} {post2 : Int32 → S2 → Prop} {w1 : S → va_W} {w2 : S2 → va_W} (hM : MetI l y wy rm av X' D d wc post w1) (hp : ws.Perm (wc ++ wr)) (hX : ∀ (U : State) (sz : Nat), preW X D d ws sz U → X' (va_A wc sz) U U.heap)
    (hpost : ∀ r u, post r u → ∃ v, post2 r v ∧ ∃ g, (w1 u ++ wr).Perm (w2 v ++ g)) : MetI l y wy rm av X D d ws post2 w2 := by
  intro sz
  refine Jvm.Free.MetFree.mono (hM sz) (fun a s h => ⟨h.1, fr_core h.2 hp (hX s sz h.2)⟩) (fun _ _ _ _ _ _ => trivial) (fun a s o t h hq => ?_)
  obtain ⟨⟨⟨r, u, ho, hpo, hB⟩, hF⟩, L, hE, hL⟩ := hq
  obtain ⟨v, hv, g, hg⟩ := hpost r u hpo
  obtain ⟨h1, h2⟩ := fr_back h.2 hp hg hB hF
  exact ⟨⟨⟨r, v, ho, hv, h1⟩, h2⟩, L, hE, fun q hq => fr_inc hp (hL q hq)⟩
theorem MetL.fr {S S2 : Type} {l : Launch} {y : MethodName} {wy : List Cond} {rm : Room} {av : List Value} {X X' : XT} {D : va_G} {d : Nat → ClassId} {ws wc wr : va_W} {post : Int64 → S → Prop} {post2 : Int64 → S2 → Prop} {w1 : S → va_W} {w2 : S2 → va_W} (hM : MetL l y wy rm av X' D d wc post w1) (hp : ws.Perm (wc ++ wr)) (hX : ∀ (U : State) (sz : Nat), preW X D d ws sz U → X' (va_A wc sz) U U.heap)
    (hpost : ∀ r u, post r u → ∃ v, post2 r v ∧ ∃ g, (w1 u ++ wr).Perm (w2 v ++ g)) : MetL l y wy rm av X D d ws post2 w2 := by
  intro sz
  refine Jvm.Free.MetFree.mono (hM sz) (fun a s h => ⟨h.1, fr_core h.2 hp (hX s sz h.2)⟩) (fun _ _ _ _ _ _ => trivial) (fun a s o t h hq => ?_)
  obtain ⟨⟨⟨r, u, ho, hpo, hB⟩, hF⟩, L, hE, hL⟩ := hq
  obtain ⟨v, hv, g, hg⟩ := hpost r u hpo
  obtain ⟨h1, h2⟩ := fr_back h.2 hp hg hB hF
  exact ⟨⟨⟨r, v, ho, hv, h1⟩, h2⟩, L, hE, fun q hq => fr_inc hp (hL q hq)⟩
theorem MetV.fr {S S2 : Type} {l : Launch} {y : MethodName} {wy : List Cond} {rm : Room} {av : List Value} {X X' : XT} {D : va_G} {d : Nat → ClassId} {ws wc wr : va_W} {post : S → Prop} {post2 : S2 → Prop} {w1 : S → va_W} {w2 : S2 → va_W} (hM : MetV l y wy rm av X' D d wc post w1) (hp : ws.Perm (wc ++ wr)) (hX : ∀ (U : State) (sz : Nat), preW X D d ws sz U → X' (va_A wc sz) U U.heap)
    (hpost : ∀ u, post u → ∃ v, post2 v ∧ ∃ g, (w1 u ++ wr).Perm (w2 v ++ g)) : MetV l y wy rm av X D d ws post2 w2 := by
  intro sz
  refine Jvm.Free.MetFree.mono (hM sz) (fun a s h => ⟨h.1, fr_core h.2 hp (hX s sz h.2)⟩) (fun _ _ _ _ _ _ => trivial) (fun a s o t h hq => ?_)
  obtain ⟨⟨⟨u, ho, hpo, hB⟩, hF⟩, L, hE, hL⟩ := hq
  obtain ⟨v, hv, g, hg⟩ := hpost u hpo
  obtain ⟨h1, h2⟩ := fr_back h.2 hp hg hB hF
  exact ⟨⟨⟨v, ho, hv, h1⟩, h2⟩, L, hE, fun q hq => fr_inc hp (hL q hq)⟩
/-! A NEW HOUSE AS ONE VALUE -/
def RK0 : Nat → Int32 := fX1_init.getD (fun _ => 0)
theorem fX1_init_eq : fX1_init = some RK0 := by
  unfold RK0
  have h : fX1_init.isSome = true := by decide +kernel
  cases hx : fX1_init with
  | none => rw [hx] at h; cases h
  | some x => rfl
def hv0 (x : Nat) : HV := (0, 0, 0, 0, 1, x, (fun _ => 0), (fun _ => 0), (fun _ => 0), (fun _ => 0), (fun _ => 0), RK0, 0, (-1000000), none)
theorem hv0_eq (x : Nat) (h : HV) : gX1_become (hv0 x) h = gX1_become (hv0 0) h := rfl
def u7 (h : Nat) (u : Nat × Nat × Nat × Nat × Nat × Nat × Nat) : Nat → Nat := fun k => match k with
  | 0 => h
  | 1 => u.2.1
  | 2 => u.2.2.1
  | 3 => u.2.2.2.1
  | 4 => u.2.2.2.2.1
  | 5 => u.2.2.2.2.2.1
  | 6 => u.2.2.2.2.2.2
  | _ => u.1
theorem vX1_init (l : Launch) (cs : Nat → Nat) (wi : va_W) (D : va_G) (d : Nat → ClassId) (h : Nat) : MetV l yX1_init (ws_ yX1_init cX1_init 2 none) { frames := 4, cells := 7, slots := 39, locals := 100 } [.ref h] (XI D cs wi) D d [(h, .inr (2, [.int 0, .int 0, .int 0, .int 0, .int 0, .null, .null, .null, .null, .null, .null, .null, .int 0, .int 0, .null]))] (fun (qa : Nat → Nat) => qa 0 = h) (fun qa => [oV qa (hv0 (qa 7)), (qa 7, .inr (3, [.int 0, .ref (cs 0), .int 0])), aV d qa 1 (HHO (hv0 (qa 7))), aV d qa 2 (HAT (hv0 (qa 7))), aV d qa 3 (HTO (hv0 (qa 7))), aV d qa 4 (HWE (hv0 (qa 7))), aV d qa 5 (HHE (hv0 (qa 7))), aV d qa 6 (HRA (hv0 (qa 7)))]) := by
  refine MetV.fr (wr := []) (mX1_init l cs wi D d h RK0 fX1_init_eq) (List.Perm.refl _) (fun U sz hh => XI.fr (wa := wi) (List.Perm.refl _) (fun q hq => Or.inl hq) U sz hh) (fun u hu => ⟨u7 h u, rfl, [], List.Perm.refl _⟩)
theorem rdq_up {F : Nat → Option Nat} {n : Nat} {i : Int32} {v : Nat} (h : vp_in i n) : rdq (va_up F i.toNatClampNeg (some v)) n i = some (some v) := by
  unfold rdq
  rw [if_neg h, va_up_self]
