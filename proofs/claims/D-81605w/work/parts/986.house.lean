/-! THE LAW LEVEL 2: house, ask -/
set_option maxRecDepth 100000
section HX
variable {ln ln' : Nat → Option Int32} {lf lf' : Nat → Nat → Option Nat} {dk dk' : Nat → Option Nat} {dn dn' : Nat → Int32} {v : HV} {A B : AH} {w : Nat → Int32} {r : Nat} {IH : Nat → Option HV} {KP : Nat → Int32}
theorem SR.mono (h1 : ∀ a N, ln a = some N → ln' a = some N ∧ lf' a = lf a) (h2 : ∀ a k, dk a = some k → dk' a = some k ∧ dn' a = dn a) (h : SR ln lf dk v A) : SR ln' lf' dk' v A := by
  obtain ⟨b1, b2, b3, b4, b5, b6, b7, b8⟩ := h
  obtain ⟨n1, n2⟩ := h1 _ _ b1
  refine ⟨n1, b2, b3, b4, b5, b6, b7, fun k hk => ?_⟩
  obtain ⟨a1, a2, a3, a4, a5, a6, e, he, hd⟩ := b8 k hk
  refine ⟨a1, a2, a3, a4, a5, a6, e, ?_, (h2 _ _ hd).1⟩
  have hl : ∀ i, lget ln' lf' (Hla v) i = lget ln lf (Hla v) i := fun i => by unfold lget; rw [b1, n1, n2]
  unfold gX1_dish fX1_dish at he ⊢
  by_cases c : Int32.ofNat k = Htf v
  · rw [if_pos c] at he ⊢; exact he
  · rw [if_neg c] at he ⊢
    obtain ⟨e2, g1, he⟩ := op_e he
    obtain ⟨k3, g2, he⟩ := op_e he
    rw [hl, g1, Option.bind_some, (h2 _ _ g2).1]
    exact he
theorem IVs.mono (h1 : ∀ a N, ln a = some N → ln' a = some N ∧ lf' a = lf a) (h2 : ∀ a k, dk a = some k → dk' a = some k ∧ dn' a = dn a) (h : IVs ln lf dk IH KP w) : IVs ln' lf' dk' IH KP w := fun j hj => ⟨(h j hj).1, fun v hv => by
  obtain ⟨g1, B, g2, g3⟩ := (h j hj).2 v hv
  exact ⟨g1, B, g2.mono h1 h2, g3⟩⟩
end HX
theorem dsW_get {das : List Nat} {ks : List (Nat × Int32)} {j a : Nat} {k : Nat × Int32} (h1 : das[j]? = some a) (h2 : ks[j]? = some k) : (a, .inr (5 + k.1, [.int k.2])) ∈ dsW das ks := by
  refine List.mem_of_getElem? (i := j) ?_
  unfold dsW
  rw [List.getElem?_zipWith, h1, h2]
theorem dsW_fst : ∀ {das : List Nat} {ks : List (Nat × Int32)}, das.length = ks.length → (dsW das ks).map (fun q => q.1) = das
  | [], [], _ => rfl
  | a :: das, k :: ks, h => by
    have h2 : das.length = ks.length := by simpa using h
    show a :: (dsW das ks).map (fun q => q.1) = a :: das
    rw [dsW_fst h2]
  | [], _ :: _, h => by simp at h
  | _ :: _, [], h => by simp at h
theorem house_ext {d : Nat → ClassId} {wi wr xs : va_W} {ln : Nat → Option Int32} {lf : Nat → Nat → Option Nat} {dk : Nat → Option Nat} {dn : Nat → Int32} (him : ImF d wi ln lf dk dn) {la ea : Nat} {mc : Int32} {das : List Nat} {ks : List (Nat × Int32)} (hlen : das.length = ks.length) (h5 : ∀ k ∈ ks, k.1 < 5) (h10 : ks.length ≤ 10)
    (hap : apw ((xs ++ ([(la, .inr (3, [.int mc, .ref ea, .int (Int32.ofNat ks.length)])), (ea, .inl (d 6, 10, .inr (.inr (.inr (.inr (fun j => das[j]?))))))] ++ dsW das ks)) ++ wr)) (hwi : ∀ q ∈ wi, q ∈ wr ∨ ∀ c fs, q.2 = .inr (c, fs) → c = 14) :
    ∃ (ln' : Nat → Option Int32) (lf' : Nat → Nat → Option Nat) (dk' : Nat → Option Nat) (dn' : Nat → Int32), (∀ a N, ln a = some N → ln' a = some N ∧ lf' a = lf a) ∧ (∀ a k, dk a = some k → dk' a = some k ∧ dn' a = dn a) ∧ ln' la = some (Int32.ofNat ks.length) ∧ lf' la = (fun j => das[j]?) ∧ (∀ (j a : Nat) (k : Nat × Int32), das[j]? = some a → ks[j]? = some k → dk' a = some k.1 ∧ dn' a = k.2) ∧ (∀ a N, ln' a = some N → a = la ∨ ln a = some N) ∧
      ImF d (([(la, .inr (3, [.int mc, .ref ea, .int (Int32.ofNat ks.length)])), (ea, .inl (d 6, 10, .inr (.inr (.inr (.inr (fun j => das[j]?))))))] ++ dsW das ks) ++ wi) ln' lf' dk' dn' := by
  classical
  obtain ⟨p1, -, p3⟩ := List.pairwise_append.mp hap
  obtain ⟨-, p4, -⟩ := List.pairwise_append.mp p1
  obtain ⟨-, p5, -⟩ := List.pairwise_append.mp p4
  have hnd : das.Nodup := by
    rw [← dsW_fst hlen]
    exact List.pairwise_map.mpr p5
  have n1 : ∀ q ∈ wi, (∃ fs, q.2 = .inr (3, fs)) → la ≠ q.1 := fun q hq ⟨fs, hf⟩ => (hwi q hq).elim (fun h => p3 _ (List.mem_append_right _ (List.mem_append_left _ List.mem_cons_self)) q h) (fun h => absurd (h 3 fs hf) (by decide))
  have n2 : ∀ q ∈ wi, (∃ k fs, k < 5 ∧ q.2 = .inr (5 + k, fs)) → ∀ j a, das[j]? = some a → a ≠ q.1 := fun q hq ⟨k9, fs, hk9, hf⟩ j a ha => by
    rcases hwi q hq with hq | h
    rotate_left
    · have := h _ fs hf; omega
    have hj : j < das.length := (List.getElem?_eq_some_iff.mp ha).1
    have hk : ks[j]? = some ks[j] := List.getElem?_eq_getElem (by omega)
    exact p3 _ (List.mem_append_right _ (List.mem_append_right _ (dsW_get ha hk))) q hq
  have uq : ∀ {i j a}, das[i]? = some a → das[j]? = some a → i = j := fun {i j a} h1 h2 => (List.getElem?_inj (List.getElem?_eq_some_iff.mp h1).1 hnd).mp (h1.trans h2.symm)
  refine ⟨fun a => if a = la then some (Int32.ofNat ks.length) else ln a, fun a => if a = la then (fun j => das[j]?) else lf a,
    fun a => if h : ∃ p : Nat × (Nat × Int32), das[p.1]? = some a ∧ ks[p.1]? = some p.2 then some (Classical.choose h).2.1 else dk a,
    fun a => if h : ∃ p : Nat × (Nat × Int32), das[p.1]? = some a ∧ ks[p.1]? = some p.2 then (Classical.choose h).2.2 else dn a, ?_, ?_, if_pos rfl, if_pos rfl, ?_, ?_, ?_, ?_⟩
  · intro a N h
    obtain ⟨mc', ea', cap, c1, -⟩ := him.1 a N h
    have e : ¬ a = la := fun e => n1 _ c1 ⟨_, rfl⟩ e.symm
    exact ⟨(if_neg e).trans h, if_neg e⟩
  · intro a k h
    have c1 := (him.2 a k h).2
    have c0 := (him.2 a k h).1
    have e : ¬ ∃ p : Nat × (Nat × Int32), das[p.1]? = some a ∧ ks[p.1]? = some p.2 := fun ⟨p, g1, _⟩ => n2 _ c1 ⟨k, _, c0, rfl⟩ _ _ g1 rfl
    exact ⟨(dif_neg e).trans h, dif_neg e⟩
  · intro j a k g1 g2
    have e : ∃ p : Nat × (Nat × Int32), das[p.1]? = some a ∧ ks[p.1]? = some p.2 := ⟨(j, k), g1, g2⟩
    have hc := Classical.choose_spec e
    have ej := uq hc.1 g1
    rw [ej, g2] at hc
    have ek := Option.some.inj hc.2
    refine ⟨(dif_pos e).trans ?_, (dif_pos e).trans ?_⟩
    · rw [← ek]
    · rw [← ek]
  · intro a N h
    by_cases e : a = la
    · exact Or.inl e
    · exact Or.inr ((if_neg e).symm.trans h)
  · intro a N h
    by_cases e : a = la
    · subst e
      have h := (if_pos rfl).symm.trans h
      have h := Option.some.inj h
      subst h
      refine ⟨mc, ea, 10, List.mem_append_left _ (List.mem_append_left _ List.mem_cons_self), fun _ => ?_, fun _ => ?_, ?_⟩
      · dsimp only
        rw [if_pos rfl]
        exact List.mem_append_left _ (List.mem_append_left _ (List.mem_cons_of_mem _ List.mem_cons_self))
      · rw [toClamp24 (by omega)]; exact h10
      · have h2 : ∀ k : Nat, k < 25 → ¬ Int32.ofNat k < 0 := by decide +kernel
        exact h2 _ (by omega)
    · have h := (if_neg e).symm.trans h
      obtain ⟨mc', ea', cap, c1, c2, c3⟩ := him.1 a N h
      refine ⟨mc', ea', cap, List.mem_append_right _ c1, fun hN0 => ?_, c3⟩
      dsimp only
      rw [if_neg e]
      exact List.mem_append_right _ (c2 hN0)
  · intro a k h
    by_cases e : ∃ p : Nat × (Nat × Int32), das[p.1]? = some a ∧ ks[p.1]? = some p.2
    · have h := (dif_pos e).symm.trans h
      have h := Option.some.inj h
      have hc := Classical.choose_spec e
      have hm := dsW_get hc.1 hc.2
      subst h
      refine ⟨h5 _ (List.mem_of_getElem? hc.2), List.mem_append_left _ (List.mem_append_right _ ?_)⟩
      dsimp only
      rw [dif_pos e]
      exact hm
    · have h := (dif_neg e).symm.trans h
      refine ⟨(him.2 a k h).1, List.mem_append_right _ ?_⟩
      dsimp only
      rw [dif_neg e]
      exact (him.2 a k h).2
theorem h24n : ∀ k : Nat, k < 25 → ¬ Int32.ofNat k < 0 := by decide +kernel
theorem h24l : ∀ k n : Nat, k < 25 → n < 25 → k < n → Int32.ofNat k < Int32.ofNat n := by
  have h : ∀ k : Nat, k < 25 → ∀ n : Nat, n < 25 → k < n → Int32.ofNat k < Int32.ofNat n := by decide +kernel
  exact fun k n h1 h2 h3 => h k h1 n h2 h3
theorem h24g : ∀ k n : Nat, k < 25 → n < 25 → Int32.ofNat k < Int32.ofNat n → k < n := by
  have h : ∀ k : Nat, k < 25 → ∀ n : Nat, n < 25 → Int32.ofNat k < Int32.ofNat n → k < n := by decide +kernel
  exact fun k n h1 h2 h3 => h k h1 n h2 h3
theorem L_ask {l : Launch} {D : va_G} {d : Nat → ClassId} {cs : Nat → Nat} {w0 : va_W} {sa ha ta ad : Nat → Nat} {ws wm : va_W} (h : RM d sa ha ta ad w0 ws wm) (p1 p2 : Int32) : LawI l yX0_ask (ws_ yX0_ask cX0_ask 4 (some .int)) yX9_ask (ws_ yX9_ask cX9_ask 3 (some .int)) [.int p1, .int p2] D d cs w0 (sa 0) (ad 0) ws wm (RM d sa ha ta ad w0) := by
  obtain ⟨gf, gs, fa, fb, fn, fr, Ww, TM, MA, LA, IT, HE, OR, BO, VV, KP, TR, tra, tba, tm, TB, hv, tv, LI, BE, TA, TK, RW, PA, IA, rs, ria, qa, xa, PH, IH, ln, lf, dk, dn, wi, g, t, rfl, hp, hF⟩ := h
  obtain ⟨hT, hP, hI, hRR, hRW, hTT, hTP, hGE, hTK, hPA, hPA2, hIA, him⟩ := hF
  obtain ⟨ans, made, t2, TB', fr', TR', h1, h2, h3⟩ := act_ask hT hGE.gd fr TR p1 p2
  rcases h3 with ⟨rfl, y2, y3⟩ | ⟨rfl, hc⟩
  · obtain rfl := y2.symm
    obtain rfl := y3.symm
    refine law_of (ans := ans) (wi := (w0 ++ wi)) (wr := ([((sa 1), .inl (d 3, 8, .inr (.inr (.inr (.inr RW))))), ((sa 2), .inl (d 1, 110, .inl TA)), ((sa 3), .inl (d 4, 24, .inr (.inr (.inr (.inr PA))))), ((sa 4), .inl (d 4, 2, .inr (.inr (.inr (.inr IA))))), ((sa 5), .inl (d 0, 6, .inl LI)), ((sa 6), .inl (d 0, 6, .inl BE)), ((sa 7), .inl (d 5, 5, .inr (.inr (.inr (.inr TK))))), oV ta tv, aV d ta 1 (HHO tv), aV d ta 2 (HAT tv), aV d ta 3 (HTO tv), aV d ta 4 (HWE tv), aV d ta 5 (HHE tv), aV d ta 6 (HRA tv), (tra, .inr (4, [.ref tba, .int tm])), (tba, .inl (d 0, 16, .inl TB))] ++ (pool (rC d ria RW rs) 8 ++ (pool (pC d PA qa PH) 24 ++ (pool (iC d IH xa) 2 ++ wi))) : va_W)) (wr9 := ([((ad 2), .inl (d 0, 110, .inl TM)), ((ad 3), .inl (d 0, 8, .inl MA)), ((ad 4), .inl (d 0, 8, .inl LA)), ((ad 5), .inl (d 0, 320, .inl IT)), ((ad 6), .inl (d 0, 40, .inl HE)), ((ad 7), .inl (d 0, 7, .inl OR)), ((ad 8), .inl (d 0, 6, .inl BO)), ((ad 9), .inl (d 0, 45, .inl VV)), ((ad 10), .inl (d 2, 2, .inl KP))] : va_W)) (wm' := MW d ad (Int32.ofNat g) (Int32.ofNat t) gf gs fa fb fn fr Ww TM MA LA IT HE OR BO VV KP TR) (mX0_ask l D d cs (w0 ++ wi) ln lf dk dn him ha sa ta hv (Int32.ofNat t) gf (Int32.ofNat g) tra gs p1 p2 _ h1) (mX9_ask l (XE D cs w0) XE.ok D d ad (Int32.ofNat g) (Int32.ofNat t) gf gs fa fb fn fr Ww TR p1 p2 _ h2) rfl rfl ?_ (fun q hq => (List.mem_append.mp hq).elim Or.inl (fun hq => Or.inr (List.mem_append_right _ (List.mem_append_right _ (List.mem_append_right _ (List.mem_append_right _ hq)))))) ?_ ?_ ?_
    · refine hp.trans ?_
      refine pcountP (fun f g h1 h2 h3 h4 => ?_)
      simp only [SYS, MW, oV, h1, h2, h3]
      omega
    · refine pcountP (fun f g h1 h2 h3 h4 => ?_)
      simp only [SYS, MW, oV, h1, h2, h3]
      omega
    · intro r u hu hap
      refine ⟨hu, ?_⟩
      refine ⟨gf, gs, fa, fb, fn, fr, Ww, TM, MA, LA, IT, HE, OR, BO, VV, KP, TR, tra, tba, tm, TB, hv, tv, LI, BE, TA, TK, RW, PA, IA, rs, ria, qa, xa, PH, IH, ln, lf, dk, dn, wi, g, t, rfl, ?_, ⟨hT, hP, hI, hRR, hRW, hTT, hTP, hGE, hTK, hPA, hPA2, hIA, him⟩⟩
      refine pcountP (fun f g h1 h2 h3 h4 => ?_)
      simp only [SYS, MW, oV, h1, h2, h3]
      omega
    · intro r u hu
      refine ⟨hu, ?_⟩
      refine pcountP (fun f g h1 h2 h3 h4 => ?_)
      simp only [SYS, MW, oV, h1, h2, h3]
      omega
  · refine law_of (ans := ans) (wi := (w0 ++ wi)) (wr := ([((sa 1), .inl (d 3, 8, .inr (.inr (.inr (.inr RW))))), ((sa 2), .inl (d 1, 110, .inl TA)), ((sa 3), .inl (d 4, 24, .inr (.inr (.inr (.inr PA))))), ((sa 4), .inl (d 4, 2, .inr (.inr (.inr (.inr IA))))), ((sa 5), .inl (d 0, 6, .inl LI)), ((sa 6), .inl (d 0, 6, .inl BE)), ((sa 7), .inl (d 5, 5, .inr (.inr (.inr (.inr TK))))), oV ta tv, aV d ta 1 (HHO tv), aV d ta 2 (HAT tv), aV d ta 3 (HTO tv), aV d ta 4 (HWE tv), aV d ta 5 (HHE tv), aV d ta 6 (HRA tv), (tra, .inr (4, [.ref tba, .int tm])), (tba, .inl (d 0, 16, .inl TB))] ++ (pool (rC d ria RW rs) 8 ++ (pool (pC d PA qa PH) 24 ++ (pool (iC d IH xa) 2 ++ wi))) : va_W)) (wr9 := ([((ad 2), .inl (d 0, 110, .inl TM)), ((ad 3), .inl (d 0, 8, .inl MA)), ((ad 4), .inl (d 0, 8, .inl LA)), ((ad 5), .inl (d 0, 320, .inl IT)), ((ad 6), .inl (d 0, 40, .inl HE)), ((ad 7), .inl (d 0, 7, .inl OR)), ((ad 8), .inl (d 0, 6, .inl BO)), ((ad 9), .inl (d 0, 45, .inl VV)), ((ad 10), .inl (d 2, 2, .inl KP))] : va_W)) (wm' := MW d ad (Int32.ofNat g) (Int32.ofNat t) gf gs fa fb fn fr' Ww TM MA LA IT HE OR BO VV KP TR') (mX0_ask l D d cs (w0 ++ wi) ln lf dk dn him ha sa ta hv (Int32.ofNat t) gf (Int32.ofNat g) tra gs p1 p2 _ h1) (mX9_ask l (XE D cs w0) XE.ok D d ad (Int32.ofNat g) (Int32.ofNat t) gf gs fa fb fn fr Ww TR p1 p2 _ h2) rfl rfl ?_ (fun q hq => (List.mem_append.mp hq).elim Or.inl (fun hq => Or.inr (List.mem_append_right _ (List.mem_append_right _ (List.mem_append_right _ (List.mem_append_right _ hq)))))) ?_ ?_ ?_
    · refine hp.trans ?_
      refine pcountP (fun f g h1 h2 h3 h4 => ?_)
      simp only [SYS, MW, oV, h1, h2, h3]
      omega
    · refine pcountP (fun f g h1 h2 h3 h4 => ?_)
      simp only [SYS, MW, oV, h1, h2, h3]
      omega
    · intro r u hu hap
      refine ⟨hu, ?_⟩
      refine ⟨gf, gs, fa, fb, fn, fr', Ww, TM, MA, LA, IT, HE, OR, BO, VV, KP, TR', u.1, u.2, t2, TB', hv, tv, LI, BE, TA, TK, RW, PA, IA, rs, ria, qa, xa, PH, IH, ln, lf, dk, dn, ([(tra, .inr (4, [.ref tba, .int tm])), (tba, .inl (d 0, 16, .inl TB))] ++ wi), g, t, rfl, ?_, ⟨hT, hP, hI, hRR, hRW, hc, hTP, hGE, hTK, hPA, hPA2, hIA, him.wide (fun q hq => (List.mem_append.mp hq).elim (fun h => List.mem_append_left _ h) (fun h => List.mem_append_right _ (List.mem_append_right _ h)))⟩⟩
      refine pcountP (fun f g h1 h2 h3 h4 => ?_)
      simp only [SYS, MW, oV, h1, h2, h3]
      omega
    · intro r u hu
      refine ⟨hu, ?_⟩
      refine pcountP (fun f g h1 h2 h3 h4 => ?_)
      simp only [SYS, MW, oV, h1, h2, h3]
      omega
theorem L_house {l : Launch} {D : va_G} {d : Nat → ClassId} {cs : Nat → Nat} {w0 : va_W} {sa ha ta ad : Nat → Nat} {ws wm : va_W} (hs : StrF d cs w0) (he : EmpF d cs w0) (h14 : ∀ q ∈ w0, ∀ c fs, q.2 = .inr (c, fs) → c = 14) (h : RM d sa ha ta ad w0 ws wm) : LawI l yX0_house (wsW_ yX0_house cX0_house 3 (some .int) [(21, 25, 28, 147)]) yX9_house (ws_ yX9_house cX9_house 2 (some .int)) [] D d cs w0 (sa 0) (ad 0) ws wm (RM d sa ha ta ad w0) := by
  obtain ⟨gf, gs, fa, fb, fn, fr, Ww, TM, MA, LA, IT, HE, OR, BO, VV, KP, TR, tra, tba, tm, TB, hv, tv, LI, BE, TA, TK, RW, PA, IA, rs, ria, qa, xa, PH, IH, ln, lf, dk, dn, wi, g, t, rfl, hp, hF⟩ := h
  obtain ⟨hT, hP, hI, hRR, hRW, hTT, hTP, hGE, hTK, hPA, hPA2, hIA, him⟩ := hF
  have hs2 : StrF d cs (w0 ++ wi) := trivial
  have he2 : EmpF d cs (w0 ++ wi) := trivial
  rcases act_house hTP Ww (Int32.ofNat g) gf fb fn with ⟨e, p, a, v, w', h1, h2, hk⟩ | ⟨res, a, v, w', A, h1, h2, hN, ok, hMR, hTo, hk⟩
  · have h2 : fX9_house Ww TM (Int32.ofNat g) (Int32.ofNat t) gf fb fn = some ((-1000100) - p, Int32.ofNat g, Int32.ofNat 0, e, a, p, v, w') := h2
    have z00 : oS sa ha ta 0 e (Int32.ofNat g) tra gs = oS sa ha ta (Int32.ofNat 0) e (Int32.ofNat g) tra gs := rfl
    refine law_of (ans := ((-1000100) - p)) (wi := (w0 ++ wi)) (wr := ([((sa 1), .inl (d 3, 8, .inr (.inr (.inr (.inr RW))))), ((sa 3), .inl (d 4, 24, .inr (.inr (.inr (.inr PA))))), ((sa 4), .inl (d 4, 2, .inr (.inr (.inr (.inr IA))))), ((sa 5), .inl (d 0, 6, .inl LI)), ((sa 6), .inl (d 0, 6, .inl BE)), ((sa 7), .inl (d 5, 5, .inr (.inr (.inr (.inr TK))))), oV ta tv, aV d ta 1 (HHO tv), aV d ta 2 (HAT tv), aV d ta 3 (HTO tv), aV d ta 4 (HWE tv), aV d ta 5 (HHE tv), aV d ta 6 (HRA tv), (tra, .inr (4, [.ref tba, .int tm])), (tba, .inl (d 0, 16, .inl TB))] ++ (pool (rC d ria RW rs) 8 ++ (pool (pC d PA qa PH) 24 ++ (pool (iC d IH xa) 2 ++ wi))) : va_W)) (wr9 := ([((ad 3), .inl (d 0, 8, .inl MA)), ((ad 4), .inl (d 0, 8, .inl LA)), ((ad 5), .inl (d 0, 320, .inl IT)), ((ad 6), .inl (d 0, 40, .inl HE)), ((ad 7), .inl (d 0, 7, .inl OR)), ((ad 8), .inl (d 0, 6, .inl BO)), ((ad 9), .inl (d 0, 45, .inl VV)), ((ad 10), .inl (d 2, 2, .inl KP)), ((ad 11), .inl (d 0, 16, .inl TR))] : va_W)) (wm' := MW d ad (Int32.ofNat g) (Int32.ofNat 0) e gs a p v fr w' TM MA LA IT HE OR BO VV KP TR) (mX0_house_0 l D d cs (w0 ++ wi) ln lf dk dn him hs2 he2 sa ha ta (Int32.ofNat t) gf (Int32.ofNat g) tra gs hv TA _ h1) (mX9_house l (XE D cs w0) XE.ok D d ad (Int32.ofNat g) (Int32.ofNat t) gf gs fa fb fn fr Ww TM _ h2) rfl rfl ?_ (fun q hq => (List.mem_append.mp hq).elim Or.inl (fun hq => Or.inr (List.mem_append_right _ (List.mem_append_right _ (List.mem_append_right _ (List.mem_append_right _ hq)))))) ?_ ?_ ?_
    · refine hp.trans ?_
      refine pcountP (fun f g h1 h2 h3 h4 => ?_)
      simp only [SYS, MW, oV, z00, h1, h2, h3]
      omega
    · refine pcountP (fun f g h1 h2 h3 h4 => ?_)
      simp only [SYS, MW, oV, h1, h2, h3]
      omega
    · intro r u hu hap
      refine ⟨hu, ?_⟩
      refine ⟨e, gs, a, p, v, fr, w', TM, MA, LA, IT, HE, OR, BO, VV, KP, TR, tra, tba, tm, TB, hv, tv, LI, BE, TA, TK, RW, PA, IA, rs, ria, qa, xa, PH, IH, ln, lf, dk, dn, wi, g, 0, rfl, ?_, ⟨hT.keep (fun j hj => hk j (by omega)), hP.keep (fun j hj => hk j (by omega)), hI.keep (fun j a1 a2 => hk j (by omega)), hRR, hRW, hTT, ⟨Nat.zero_le _, fun i hi => absurd hi (Nat.not_lt_zero _)⟩, hGE, hTK, hPA, hPA2, hIA, him⟩⟩
      refine pcountP (fun f g h1 h2 h3 h4 => ?_)
      simp only [SYS, MW, oV, z00, h1, h2, h3]
      omega
    · intro r u hu
      refine ⟨hu, ?_⟩
      refine pcountP (fun f g h1 h2 h3 h4 => ?_)
      simp only [SYS, MW, oV, h1, h2, h3]
      omega
  · have h2 : fX9_house Ww TM (Int32.ofNat g) (Int32.ofNat t) gf fb fn = some (Int32.ofNat (zN A), Int32.ofNat 0, Int32.ofNat 0, gf, a, fb, v, w') := h2
    have z00 : oS sa ha ta 0 gf 0 tra gs = oS sa ha ta (Int32.ofNat 0) gf (Int32.ofNat 0) tra gs := rfl
    refine law_of (ans := (Int32.ofNat (zN A))) (wi := (w0 ++ wi)) (wr := ([((sa 1), .inl (d 3, 8, .inr (.inr (.inr (.inr RW))))), ((sa 3), .inl (d 4, 24, .inr (.inr (.inr (.inr PA))))), ((sa 4), .inl (d 4, 2, .inr (.inr (.inr (.inr IA))))), ((sa 5), .inl (d 0, 6, .inl LI)), ((sa 6), .inl (d 0, 6, .inl BE)), ((sa 7), .inl (d 5, 5, .inr (.inr (.inr (.inr TK))))), oV ta tv, aV d ta 1 (HHO tv), aV d ta 2 (HAT tv), aV d ta 3 (HTO tv), aV d ta 4 (HWE tv), aV d ta 5 (HHE tv), aV d ta 6 (HRA tv), (tra, .inr (4, [.ref tba, .int tm])), (tba, .inl (d 0, 16, .inl TB))] ++ (pool (rC d ria RW rs) 8 ++ (pool (pC d PA qa PH) 24 ++ (pool (iC d IH xa) 2 ++ wi))) : va_W)) (wr9 := ([((ad 3), .inl (d 0, 8, .inl MA)), ((ad 4), .inl (d 0, 8, .inl LA)), ((ad 5), .inl (d 0, 320, .inl IT)), ((ad 6), .inl (d 0, 40, .inl HE)), ((ad 7), .inl (d 0, 7, .inl OR)), ((ad 8), .inl (d 0, 6, .inl BO)), ((ad 9), .inl (d 0, 45, .inl VV)), ((ad 10), .inl (d 2, 2, .inl KP)), ((ad 11), .inl (d 0, 16, .inl TR))] : va_W)) (wm' := MW d ad (Int32.ofNat 0) (Int32.ofNat 0) gf gs a fb v fr w' TM MA LA IT HE OR BO VV KP TR) (mX0_house_1 l D d cs (w0 ++ wi) ln lf dk dn him hs2 he2 sa ha ta (Int32.ofNat t) gf (Int32.ofNat g) tra gs hv TA _ h1) (mX9_house l (XE D cs w0) XE.ok D d ad (Int32.ofNat g) (Int32.ofNat t) gf gs fa fb fn fr Ww TM _ h2) rfl rfl ?_ (fun q hq => (List.mem_append.mp hq).elim Or.inl (fun hq => Or.inr (List.mem_append_right _ (List.mem_append_right _ (List.mem_append_right _ (List.mem_append_right _ hq)))))) ?_ ?_ ?_
    · refine hp.trans ?_
      refine pcountP (fun f g h1 h2 h3 h4 => ?_)
      simp only [SYS, MW, oV, z00, h1, h2, h3]
      omega
    · refine pcountP (fun f g h1 h2 h3 h4 => ?_)
      simp only [SYS, MW, oV, h1, h2, h3]
      omega
    · intro r u hu hap
      obtain ⟨hu1, hu2, hu3⟩ := hu
      have hln := hTo.1
      have h6 : zN A ≤ 6 := ok.1
      obtain ⟨ln', lf', dk', dn', m1, m2, m3, m4, m5, m6, m7⟩ := house_ext him hu2 hu3 (by omega) hap (fun q hq => (List.mem_append.mp hq).elim (fun h => Or.inr (h14 q h)) (fun hq => Or.inl (List.mem_append_right _ (List.mem_append_right _ (List.mem_append_right _ (List.mem_append_right _ hq))))))
      have hlg : ∀ k, k < zN A → ∃ e, lget ln' lf' u.1 (Int32.ofNat k) = some e ∧ dk' e = some (zK A k) ∧ dn' e = Int32.ofNat k := by
        intro k hk9
        obtain ⟨-, -, -, -, -, -, gk9⟩ := hTo.2.2.2.2.2.2.2 k hk9
        have hj : k < u.2.2.length := by omega
        have hj2 : u.2.2[k]? = some u.2.2[k] := List.getElem?_eq_getElem hj
        obtain ⟨x1, x2⟩ := m5 k _ _ hj2 gk9
        refine ⟨u.2.2[k], ?_, x1, x2⟩
        unfold lget
        rw [m3, m4, Option.bind_some, if_neg (h24n k (by omega)), if_pos (by rw [hln]; exact h24l k (zN A) (by omega) (by omega) hk9), toClamp24 (by omega)]
        exact hj2
      obtain ⟨hS1, hS2, hS3⟩ := told_SR (ln := ln') (lf := lf') (dk := dk') (la := u.1) hv (by rw [m3, hln]) (fun k hk9 => (hlg k hk9).elim (fun e he => ⟨e, he.1, he.2.1⟩)) hTo ok
      have hT2 : TV ln' lf' dk' (becV hv (mvN u.1 res)) w' := Or.inr ⟨A, hS1, hMR, ok, hN, by rw [hTo.2.2.2.2.2.2.1]; omega, hS2⟩
      have hGE2 : GE ln' lf' dk' dn' := by
        intro la k e hl hk9
        cases hl0 : ln' la with
        | none =>
          unfold lget at hl
          rw [hl0] at hl
          cases hl
        | some N =>
          rcases m6 la N hl0 with rfl | hl1
          · have hk8 : k < zN A := by
              unfold lget at hl
              rw [m3, Option.bind_some, if_neg (h24n k (by omega))] at hl
              by_cases c : Int32.ofNat k < Int32.ofNat (yks res.2.2.2).length
              · rw [hln] at c; exact h24g k (zN A) (by omega) (by omega) c
              · rw [if_neg c] at hl; cases hl
            obtain ⟨e2, x1, x2, x3⟩ := hlg k hk8
            rw [x1] at hl
            have hl := Option.some.inj hl
            subst hl
            exact ⟨x3, _, x2⟩
          · obtain ⟨n1, n2⟩ := m1 la N hl1
            have hl2 : lget ln lf la (Int32.ofNat k) = some e := by
              unfold lget at hl ⊢
              rw [n1, n2] at hl
              rw [hl1]
              exact hl
            obtain ⟨x1, K, x2⟩ := hGE la k e hl2 hk9
            obtain ⟨x3, x4⟩ := m2 e K x2
            exact ⟨x4.trans x1, K, x3⟩
      refine ⟨by rw [hu1, hln], ?_⟩
      refine ⟨gf, gs, a, fb, v, fr, w', TM, MA, LA, IT, HE, OR, BO, VV, KP, TR, tra, tba, tm, TB, (becV hv (mvN u.1 res)), tv, LI, BE, TA, TK, RW, PA, IA, rs, ria, qa, xa, PH, IH, ln', lf', dk', dn', (([(u.1, .inr (3, [.int (yLm res.2.2.2), .ref u.2.1, .int (Int32.ofNat (yks res.2.2.2).length)])), (u.2.1, .inl (d 6, 10, .inr (.inr (.inr (.inr (fun j => u.2.2[j]?))))))] ++ dsW u.2.2 (yks res.2.2.2)) ++ wi), 0, 0, rfl, ?_, ⟨hT2, ⟨Nat.zero_le _, fun j hj => absurd hj (Nat.not_lt_zero _)⟩, (hI.keep (fun j a1 a2 => hk j (by omega))).mono m1 m2, hRR, hRW, hTT, ⟨Nat.zero_le _, fun i hi => absurd hi (Nat.not_lt_zero _)⟩, hGE2, fun k hk9 => (hTK k hk9).elim (fun e he => ⟨e, he.1, (m2 _ _ he.2).1⟩), hPA, fun j hj => absurd hj (Nat.not_lt_zero _), hIA, m7.wide (fun q hq => (List.mem_append.mp hq).elim (fun h => List.mem_append_right _ (List.mem_append_left _ h)) (fun h => (List.mem_append.mp h).elim (fun h => List.mem_append_left _ h) (fun h => List.mem_append_right _ (List.mem_append_right _ h))))⟩⟩
      refine pcountP (fun f g h1 h2 h3 h4 => ?_)
      simp only [SYS, MW, oV, z00, h1, h2, h3]
      omega
    · intro r u hu
      refine ⟨hu, ?_⟩
      refine pcountP (fun f g h1 h2 h3 h4 => ?_)
      simp only [SYS, MW, oV, h1, h2, h3]
      omega
