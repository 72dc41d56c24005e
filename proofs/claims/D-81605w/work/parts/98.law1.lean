/-! THE LAW LEVEL 1: the state of both sides -/
set_option maxRecDepth 100000
/-- frames with what is known of the result: its cells lie apart -/
theorem fr_apw {D : va_G} {d : Nat → ClassId} {X : XT} {ws wc wr w1 : va_W} {sz : Nat} {U t : State} (h : preW X D d ws sz U) (hp : ws.Perm (wc ++ wr)) (hB : posW D w1 (va_A wc sz) t) : apw (w1 ++ wr) := by
  obtain ⟨hB2, hB3⟩ := va_Dm.mp hB.2
  refine List.pairwise_append.mpr ⟨hB2, (List.pairwise_append.mp ((va_Dm.mp h.2.2.2.1).1.perm hp)).2.1, fun a ha b hb e => ?_⟩
  have := hB3 a ha
  rw [e] at this
  exact (fr_apart h hp hb).2 this
theorem MetI.fr2 {S S2 : Type} {l : Launch} {y : MethodName} {wy : List Cond} {rm : Room} {av : List Value} {X X' : XT} {D : va_G} {d : Nat → ClassId} {ws wc wr : va_W} {post : Int32 → S → Prop} {post2 : Int32 → S2 → Prop} {w1 : S → va_W} {w2 : S2 → va_W} (hM : MetI l y wy rm av X' D d wc post w1) (hp : ws.Perm (wc ++ wr)) (hX : ∀ (U : State) (sz : Nat), preW X D d ws sz U → X' (va_A wc sz) U U.heap)
    (hpost : ∀ r u, post r u → apw (w1 u ++ wr) → ∃ v, post2 r v ∧ ∃ g, (w1 u ++ wr).Perm (w2 v ++ g)) : MetI l y wy rm av X D d ws post2 w2 := by
  intro sz
  refine Jvm.Free.MetFree.mono (hM sz) (fun a s h => ⟨h.1, fr_core h.2 hp (hX s sz h.2)⟩) (fun _ _ _ _ _ _ => trivial) (fun a s o t h hq => ?_)
  obtain ⟨⟨⟨r, u, ho, hpo, hB⟩, hF⟩, L, hE, hL⟩ := hq
  obtain ⟨v, hv, g, hg⟩ := hpost r u hpo (fr_apw h.2 hp hB)
  obtain ⟨h1, h2⟩ := fr_back h.2 hp hg hB hF
  exact ⟨⟨⟨r, v, ho, hv, h1⟩, h2⟩, L, hE, fun q hq => fr_inc hp (hL q hq)⟩
theorem XE.frI {D : va_G} {d : Nat → ClassId} {cs : Nat → Nat} {ws wc wr wa wi : va_W} (hp : ws.Perm (wc ++ wr)) (hi : ∀ q ∈ wi, q ∈ wa ∨ q ∈ wr) (U : State) (sz : Nat) (h : preW (XE D cs wa) D d ws sz U) : XI D cs wi (va_A wc sz) U U.heap :=
  XI.fr hp hi U sz ⟨h.1, h.2.1, h.2.2.1, h.2.2.2.1, h.2.2.2.2.1⟩
theorem XE.frE {D : va_G} {d : Nat → ClassId} {cs : Nat → Nat} {ws wc wr wa wi : va_W} (hp : ws.Perm (wc ++ wr)) (hi : ∀ q ∈ wi, q ∈ wa ∨ q ∈ wr) (U : State) (sz : Nat) (h : preW (XE D cs wa) D d ws sz U) : XE D cs wi (va_A wc sz) U U.heap :=
  ⟨XE.frI hp hi U sz h, vx_L.narrow h.2.2.2.2.2.1 (fun q hq => fr_inc hp hq), vx_L.narrow h.2.2.2.2.2.2 (fun q hq => fr_inc hp hq)⟩
/-- pools of cells, by place -/
def pool (f : Nat → va_W) (n : Nat) : va_W := (List.range n).flatMap f
def wo (f : Nat → va_W) (i : Nat) : Nat → va_W := fun j => if j = i then [] else f j
theorem pool_succ (f : Nat → va_W) (n : Nat) : pool f (n + 1) = pool f n ++ f n := by
  unfold pool
  rw [List.range_succ, List.flatMap_append]
  simp
theorem pool_congr {f g : Nat → va_W} : ∀ {n : Nat}, (∀ j, j < n → f j = g j) → pool f n = pool g n
  | 0, _ => rfl
  | n + 1, h => by rw [pool_succ, pool_succ, pool_congr (n := n) (fun j hj => h j (by omega)), h n (by omega)]
theorem pool_at {f : Nat → va_W} {i : Nat} : ∀ {n : Nat}, i < n → (pool f n).Perm (f i ++ pool (wo f i) n)
  | 0, h => absurd h (Nat.not_lt_zero _)
  | n + 1, h => by
    rw [pool_succ, pool_succ]
    by_cases e : i = n
    · subst e
      have e1 : pool (wo f i) i = pool f i := pool_congr (fun j hj => if_neg (by omega))
      have e2 : wo f i i = [] := if_pos rfl
      rw [e1, e2, List.append_nil]
      exact List.perm_append_comm
    · have e2 : wo f i n = f n := if_neg (fun h => e h.symm)
      rw [e2, ← List.append_assoc]
      exact (pool_at (n := n) (by omega)).append_right _
theorem wo_congr {f g : Nat → va_W} {i : Nat} (h : ∀ j, j ≠ i → f j = g j) : wo f i = wo g i := by
  funext j
  unfold wo
  by_cases e : j = i
  · rw [if_pos e, if_pos e]
  · rw [if_neg e, if_neg e, h j e]
theorem pool_rot {f g : Nat → va_W} {n : Nat} (h1 : ∀ j, j < n → g j = f (j + 1)) (h2 : g n = f 0) : (pool g (n + 1)).Perm (pool f (n + 1)) := by
  have e1 : pool g (n + 1) = pool (fun j => f (j + 1)) n ++ f 0 := by rw [pool_succ, h2, pool_congr h1]
  have e2 : pool f (n + 1) = f 0 ++ pool (fun j => f (j + 1)) n := by
    unfold pool
    rw [List.range_succ_eq_map, List.flatMap_cons, List.flatMap_map]
  rw [e1, e2]
  exact List.perm_append_comm
theorem pool_mem {f : Nat → va_W} {n i : Nat} {q : Nat × va_E} (hi : i < n) (hq : q ∈ f i) : q ∈ pool f n := List.mem_flatMap.mpr ⟨i, List.mem_range.mpr hi, hq⟩
/-- a house's cells -/
def hC (d : Nat → ClassId) (a : Nat → Nat) (v : HV) : va_W := [oV a v, aV d a 1 (HHO v), aV d a 2 (HAT v), aV d a 3 (HTO v), aV d a 4 (HWE v), aV d a 5 (HHE v), aV d a 6 (HRA v)]
def rC (d : Nat → ClassId) (ria : Nat → Nat) (RW : Nat → Option Nat) (rs : Nat → Option Rw) (i : Nat) : va_W := match rs i, RW i with
  | some x, some a => [(a, .inr (10, [.int x.2.1, .ref (ria i)])), (ria i, .inl (d 0, x.1, .inl x.2.2))]
  | _, _ => []
def pC (d : Nat → ClassId) (PA : Nat → Option Nat) (qa : Nat → Nat → Nat) (PH : Nat → HV) (j : Nat) : va_W := match PA j with
  | none => []
  | some _ => hC d (qa j) (PH j)
def iC (d : Nat → ClassId) (IH : Nat → Option HV) (xa : Nat → Nat → Nat) (j : Nat) : va_W := match IH j with
  | none => []
  | some q => hC d (xa j) q
abbrev qC (F : Nat → Option Nat) : (Nat → Int32) ⊕ ((Nat → Int64) ⊕ ((Nat → UInt32) ⊕ ((Nat → UInt64) ⊕ (Nat → Option Nat)))) := .inr (.inr (.inr (.inr F)))
/-- the system's cells that always stand -/
def SYS (d : Nat → ClassId) (sa ha ta : Nat → Nat) (gt gf gc : Int32) (tra : Nat) (gs : Int32) (RW : Nat → Option Nat) (TA : Nat → Int32) (PA IA : Nat → Option Nat) (LI BE : Nat → Int32) (TK : Nat → Option Nat) (hv tv : HV) (tba : Nat) (tm : Int32) (TB : Nat → Int32) : va_W :=
  [oS sa ha ta gt gf gc tra gs, ((sa 1), .inl (d 3, 8, .inr (.inr (.inr (.inr RW))))), ((sa 2), .inl (d 1, 110, .inl TA)), ((sa 3), .inl (d 4, 24, .inr (.inr (.inr (.inr PA))))), ((sa 4), .inl (d 4, 2, .inr (.inr (.inr (.inr IA))))), ((sa 5), .inl (d 0, 6, .inl LI)), ((sa 6), .inl (d 0, 6, .inl BE)), ((sa 7), .inl (d 5, 5, .inr (.inr (.inr (.inr TK))))),
   oV ha hv, aV d ha 1 (HHO hv), aV d ha 2 (HAT hv), aV d ha 3 (HTO hv), aV d ha 4 (HWE hv), aV d ha 5 (HHE hv), aV d ha 6 (HRA hv),
   oV ta tv, aV d ta 1 (HHO tv), aV d ta 2 (HAT tv), aV d ta 3 (HTO tv), aV d ta 4 (HWE tv), aV d ta 5 (HHE tv), aV d ta 6 (HRA tv),
   (tra, .inr (4, [.ref tba, .int tm])), (tba, .inl (d 0, 16, .inl TB))]
/-- the reference's cells -/
def MW (d : Nat → ClassId) (ad : Nat → Nat) (fu ft ff fs fa fb fn fr : Int32) (Ww TM MA LA IT HE OR BO VV KP TR : Nat → Int32) : va_W :=
  [oM ad fu ft ff fs fa fb fn fr, ((ad 1), .inl (d 0, 1247, .inl Ww)), ((ad 2), .inl (d 0, 110, .inl TM)), ((ad 3), .inl (d 0, 8, .inl MA)), ((ad 4), .inl (d 0, 8, .inl LA)), ((ad 5), .inl (d 0, 320, .inl IT)), ((ad 6), .inl (d 0, 40, .inl HE)), ((ad 7), .inl (d 0, 7, .inl OR)), ((ad 8), .inl (d 0, 6, .inl BO)), ((ad 9), .inl (d 0, 45, .inl VV)), ((ad 10), .inl (d 2, 2, .inl KP)), ((ad 11), .inl (d 0, 16, .inl TR))]
def GE (ln : Nat → Option Int32) (lf : Nat → Nat → Option Nat) (dk : Nat → Option Nat) (dn : Nat → Int32) : Prop := ∀ la k e, lget ln lf la (Int32.ofNat k) = some e → k < 6 → dn e = Int32.ofNat k ∧ ∃ K, dk e = some K
theorem GE.gd {ln : Nat → Option Int32} {lf : Nat → Nat → Option Nat} {dk : Nat → Option Nat} {dn : Nat → Int32} (h : GE ln lf dk dn) : GD ln lf dn := fun la k e h1 h2 => (h la k e h1 h2).1
/-- what holds between the two -/
def FCT (d : Nat → ClassId) (gt gf gc gs tm : Int32) (TB TA : Nat → Int32) (TK RW PA IA : Nat → Option Nat) (hv : HV) (rs : Nat → Option Rw) (qa xa : Nat → Nat → Nat) (PH : Nat → HV) (IH : Nat → Option HV) (ln : Nat → Option Int32) (lf : Nat → Nat → Option Nat) (dk : Nat → Option Nat) (dn : Nat → Int32) (wi : va_W) (g t : Nat) (fu ft ff fs fr : Int32) (Ww TM MA LA IT KP TR : Nat → Int32) : Prop :=
  TV ln lf dk hv Ww ∧ PVs ln lf dk PH Ww g ∧ IVs ln lf dk IH KP Ww ∧ RR rs MA LA IT ∧ (∀ i, i < 8 → (rs i = none ∧ RW i = none) ∨ ∃ x a, rs i = some x ∧ RW i = some a) ∧ TT tm TB fr TR ∧ TP t TA TM ∧ GE ln lf dk dn ∧ (∀ k, k < 5 → ∃ e, TK k = some e ∧ dk e = some k) ∧
  (∀ j a, j < 24 → PA j = some a → a = qa j 0) ∧ (∀ j, j < g → ∃ a, PA j = some a) ∧ (∀ i, i < 2 → (IH i = none ∧ IA i = none) ∨ ∃ q, IH i = some q ∧ IA i = some (xa i 0)) ∧ ImF d wi ln lf dk dn ∧
  gt = Int32.ofNat t ∧ ft = gt ∧ gc = Int32.ofNat g ∧ fu = gc ∧ gs = fs ∧ gf = ff
/-- the two stand alike, the system's cells being ws -/
def Rel (d : Nat → ClassId) (sa ha ta : Nat → Nat) (fu ft ff fs fr : Int32) (Ww TM MA LA IT KP TR : Nat → Int32) (ws : va_W) : Prop :=
  ∃ (gt gf gc gs : Int32) (tra tba : Nat) (tm : Int32) (TB : Nat → Int32) (hv tv : HV) (LI BE TA : Nat → Int32) (TK RW PA IA : Nat → Option Nat) (rs : Nat → Option Rw) (ria : Nat → Nat) (qa xa : Nat → Nat → Nat) (PH : Nat → HV) (IH : Nat → Option HV) (ln : Nat → Option Int32) (lf : Nat → Nat → Option Nat) (dk : Nat → Option Nat) (dn : Nat → Int32) (wi : va_W) (g t : Nat),
    ws.Perm (SYS d sa ha ta gt gf gc tra gs RW TA PA IA LI BE TK hv tv tba tm TB ++ (pool (rC d ria RW rs) 8 ++ (pool (pC d PA qa PH) 24 ++ (pool (iC d IH xa) 2 ++ wi)))) ∧
    FCT d gt gf gc gs tm TB TA TK RW PA IA hv rs qa xa PH IH ln lf dk dn wi g t fu ft ff fs fr Ww TM MA LA IT KP TR
section LK
variable {ln : Nat → Option Int32} {lf : Nat → Nat → Option Nat} {dk : Nat → Option Nat} {dn : Nat → Int32} {hv : HV} {w w' : Nat → Int32} {PH : Nat → HV} {g : Nat} {IH : Nat → Option HV} {KP : Nat → Int32}
theorem LV.keep {A : AH} (h : LV ln lf dk hv w A) (e : ∀ i, i < 43 → w' i = w i) : LV ln lf dk hv w' A := ⟨h.1, h.2.1.keep h.2.2.1.1 (fun i _ h2 => e i (by omega)), h.2.2⟩
theorem TV.keep (h : TV ln lf dk hv w) (e : ∀ i, i < 43 → w' i = w i) : TV ln lf dk hv w' := by
  rcases h with h | ⟨A, h⟩
  · obtain ⟨h1, h2, h3, h4, h5, h6, h7⟩ := h
    exact Or.inl ⟨h1, h2, h3, (e 0 (by omega)).trans h4, (e 1 (by omega)).trans h5, (e 6 (by omega)).trans h6, h7⟩
  · exact Or.inr ⟨A, h.keep e⟩
theorem IVs.keep (h : IVs ln lf dk IH KP w) (e : ∀ i, 86 ≤ i → i < 172 → w' i = w i) : IVs ln lf dk IH KP w' := fun j hj => ⟨(h j hj).1, fun v hv => by
  obtain ⟨h1, B, hB⟩ := (h j hj).2 v hv
  exact ⟨h1, B, hB.keep (fun i a1 a2 => e i (by omega) (by omega))⟩⟩
end LK
section FC
variable {d : Nat → ClassId} {gt gf gc gs tm : Int32} {TB TA : Nat → Int32} {TK RW PA IA : Nat → Option Nat} {hv : HV} {rs : Nat → Option Rw} {qa xa : Nat → Nat → Nat} {PH : Nat → HV} {IH : Nat → Option HV} {ln : Nat → Option Int32} {lf : Nat → Nat → Option Nat} {dk : Nat → Option Nat} {dn : Nat → Int32} {wi : va_W} {g t : Nat} {fu ft ff fs fr : Int32} {Ww TM MA LA IT KP TR : Nat → Int32}
/-- only the trial's row of the reference was written -/
theorem FCT.tried {w' : Nat → Int32} (h : FCT d gt gf gc gs tm TB TA TK RW PA IA hv rs qa xa PH IH ln lf dk dn wi g t fu ft ff fs fr Ww TM MA LA IT KP TR) (e : FR Ww w' 43) : FCT d gt gf gc gs tm TB TA TK RW PA IA hv rs qa xa PH IH ln lf dk dn wi g t fu ft ff fs fr w' TM MA LA IT KP TR := by
  obtain ⟨h1, h2, h3, h4⟩ := h
  exact ⟨h1.keep (fun i hi => e i (by omega)), h2.keep (fun i hi => e i (by omega)), h3.keep (fun i a1 a2 => e i (by omega)), h4⟩
theorem FCT.st {v : Int32} (h : FCT d gt gf gc gs tm TB TA TK RW PA IA hv rs qa xa PH IH ln lf dk dn wi g t fu ft ff fs fr Ww TM MA LA IT KP TR) : FCT d gt gf gc v tm TB TA TK RW PA IA hv rs qa xa PH IH ln lf dk dn wi g t fu ft ff v fr Ww TM MA LA IT KP TR := by
  obtain ⟨h1, h2, h3, h4, h5, h6, h7, h8, h9, h10, h11, h12, h13, h14, h15, h16, h17, h18, h19⟩ := h
  exact ⟨h1, h2, h3, h4, h5, h6, h7, h8, h9, h10, h11, h12, h13, h14, h15, h16, h17, rfl, h19⟩
end FC
theorem ImF.wide {d : Nat → ClassId} {w0 wi : va_W} {ln : Nat → Option Int32} {lf : Nat → Nat → Option Nat} {dk : Nat → Option Nat} {dn : Nat → Int32} (h : ImF d wi ln lf dk dn) (hs : ∀ q ∈ wi, q ∈ w0) : ImF d w0 ln lf dk dn := by
  refine ⟨fun la N hN => ?_, fun a k hk => ⟨(h.2 a k hk).1, hs _ (h.2 a k hk).2⟩⟩
  obtain ⟨mc, ea, cap, h1, h2, h3⟩ := h.1 la N hN
  exact ⟨mc, ea, cap, hs _ h1, fun e => hs _ (h2 e), h3⟩
