set_option maxRecDepth 100000
theorem toClamp24 {n : Nat} (h : n < 25) : (Int32.ofNat n).toNatClampNeg = n := by
  have h2 : ∀ k : Nat, k < 25 → (Int32.ofNat k).toNatClampNeg = k := by decide +kernel
  exact h2 n h
section PA9
variable {PA : Nat → Option Nat} {qa : Nat → Nat → Nat} {g : Nat} {u : Nat → Nat}
theorem past_a1 (hPA : ∀ j a, j < 24 → PA j = some a → a = qa j 0) : ∀ j a, j < 24 → va_up PA g (some (u 0)) j = some a → a = (fun j => if j = g then u else qa j) j 0 := by
  intro j a hj h
  show a = (if j = g then u else qa j) 0
  by_cases e : j = g
  · subst e
    rw [vu_same] at h
    rw [if_pos rfl]
    exact (Option.some.inj h).symm
  · rw [vu_ne e] at h
    rw [if_neg e]
    exact hPA j a hj h
theorem past_a2 (hg : g < 24) (hPA2 : ∀ j, j < g → ∃ a, PA j = some a) : ∀ j, j < gk g → ∃ a, va_up PA g (some (u 0)) j = some a := by
  intro j hj
  unfold gk at hj
  rw [if_pos hg] at hj
  by_cases e : j = g
  · subst e; exact ⟨_, vu_same⟩
  · rw [vu_ne e]; exact hPA2 j (by omega)
end PA9
theorem L_pull {l : Launch} {D : va_G} {d : Nat → ClassId} {cs : Nat → Nat} {w0 : va_W} {sa ha ta ad : Nat → Nat} {ws wm : va_W} (h : RM d sa ha ta ad w0 ws wm) (p1 : Int32) : LawI l yX0_pull (ws_ yX0_pull cX0_pull 3 (some .int)) yX9_pull (ws_ yX9_pull cX9_pull 3 (some .int)) [.int p1] D d cs w0 (sa 0) (ad 0) ws wm (RM d sa ha ta ad w0) := by
  obtain ⟨gf, gs, fa, fb, fn, fr, Ww, TM, MA, LA, IT, HE, OR, BO, VV, KP, TR, tra, tba, tm, TB, hv, tv, LI, BE, TA, TK, RW, PA, IA, rs, ria, qa, xa, PH, IH, ln, lf, dk, dn, wi, g, t, rfl, hp, hF⟩ := h
  obtain ⟨hT, hP, hI, hRR, hRW, hTT, hTP, hGE, hTK, hPA, hPA2, hIA, him⟩ := hF
  rcases keep_case hP.1 hPA hPA2 with ⟨hg, hn⟩ | ⟨i, hi, q1, q2, hp0, hk⟩
  · obtain ⟨ans, made, hv', gc', q, w', h1, h2, h3⟩ := act_pull_0 hT hP hg hn p1
    have hcl : (Int32.ofNat g).toNatClampNeg = g := toClamp24 (by omega)
    rcases h3 with ⟨rfl, y2, rfl, y4⟩ | ⟨rfl, rfl, hc1, hc2, hc3⟩
    · obtain rfl := y2.symm
      obtain rfl := y4.symm
      refine law_of (ans := ans) (wi := (w0 ++ wi)) (wr := ([((sa 1), .inl (d 3, 8, .inr (.inr (.inr (.inr RW))))), ((sa 2), .inl (d 1, 110, .inl TA)), ((sa 4), .inl (d 4, 2, .inr (.inr (.inr (.inr IA))))), ((sa 5), .inl (d 0, 6, .inl LI)), ((sa 6), .inl (d 0, 6, .inl BE)), ((sa 7), .inl (d 5, 5, .inr (.inr (.inr (.inr TK))))), oV ta tv, aV d ta 1 (HHO tv), aV d ta 2 (HAT tv), aV d ta 3 (HTO tv), aV d ta 4 (HWE tv), aV d ta 5 (HHE tv), aV d ta 6 (HRA tv), (tra, .inr (4, [.ref tba, .int tm])), (tba, .inl (d 0, 16, .inl TB))] ++ (pool (rC d ria RW rs) 8 ++ (pool (pC d PA qa PH) 24 ++ (pool (iC d IH xa) 2 ++ wi))) : va_W)) (wr9 := ([((ad 2), .inl (d 0, 110, .inl TM)), ((ad 3), .inl (d 0, 8, .inl MA)), ((ad 4), .inl (d 0, 8, .inl LA)), ((ad 5), .inl (d 0, 320, .inl IT)), ((ad 6), .inl (d 0, 40, .inl HE)), ((ad 7), .inl (d 0, 7, .inl OR)), ((ad 8), .inl (d 0, 6, .inl BO)), ((ad 9), .inl (d 0, 45, .inl VV)), ((ad 10), .inl (d 2, 2, .inl KP)), ((ad 11), .inl (d 0, 16, .inl TR))] : va_W)) (wm' := MW d ad (Int32.ofNat g) (Int32.ofNat t) gf gs fa fb fn fr Ww TM MA LA IT HE OR BO VV KP TR) (mX0_pull_0 l D d cs (w0 ++ wi) ln lf dk dn him ha sa ta hv (Int32.ofNat t) gf (Int32.ofNat g) tra gs PA p1 _ h1) (mX9_pull l (XE D cs w0) XE.ok D d ad (Int32.ofNat g) (Int32.ofNat t) gf gs fa fb fn fr Ww p1 _ h2) rfl rfl ?_ (fun q hq => (List.mem_append.mp hq).elim Or.inl (fun hq => Or.inr (List.mem_append_right _ (List.mem_append_right _ (List.mem_append_right _ (List.mem_append_right _ hq)))))) ?_ ?_ ?_
      · refine hp.trans ?_
        refine pcountP (fun f g h1 h2 h3 h4 => ?_)
        simp only [SYS, MW, oV, h1, h2, h3]
        omega
      · refine pcountP (fun f g h1 h2 h3 h4 => ?_)
        simp only [SYS, MW, oV, h1, h2, h3]
        omega
      · intro r u hu hap
        refine ⟨hu, ?_⟩
        refine ⟨gf, gs, fa, fb, fn, fr, Ww, TM, MA, LA, IT, HE, OR, BO, VV, KP, TR, tra, tba, tm, TB, hv, tv, LI, BE, TA, TK, RW, PA, IA, rs, ria, qa, xa, PH, IH, ln, lf, dk, dn, wi, g, t, rfl, ?_, ⟨hT, hP, hI, hRR, hRW, hTT, hTP, hGE, hTK, hPA, hPA2, hIA, him⟩⟩
        refine pcountP (fun f g h1 h2 h3 h4 => ?_)
        simp only [SYS, MW, oV, h1, h2, h3]
        omega
      · intro r u hu
        refine ⟨hu, ?_⟩
        refine pcountP (fun f g h1 h2 h3 h4 => ?_)
        simp only [SYS, MW, oV, h1, h2, h3]
        omega
    · refine law_of (ans := ans) (wi := (w0 ++ wi)) (wr := ([((sa 1), .inl (d 3, 8, .inr (.inr (.inr (.inr RW))))), ((sa 2), .inl (d 1, 110, .inl TA)), ((sa 4), .inl (d 4, 2, .inr (.inr (.inr (.inr IA))))), ((sa 5), .inl (d 0, 6, .inl LI)), ((sa 6), .inl (d 0, 6, .inl BE)), ((sa 7), .inl (d 5, 5, .inr (.inr (.inr (.inr TK))))), oV ta tv, aV d ta 1 (HHO tv), aV d ta 2 (HAT tv), aV d ta 3 (HTO tv), aV d ta 4 (HWE tv), aV d ta 5 (HHE tv), aV d ta 6 (HRA tv), (tra, .inr (4, [.ref tba, .int tm])), (tba, .inl (d 0, 16, .inl TB))] ++ (pool (rC d ria RW rs) 8 ++ (pool (pC d PA qa PH) 24 ++ (pool (iC d IH xa) 2 ++ wi))) : va_W)) (wr9 := ([((ad 2), .inl (d 0, 110, .inl TM)), ((ad 3), .inl (d 0, 8, .inl MA)), ((ad 4), .inl (d 0, 8, .inl LA)), ((ad 5), .inl (d 0, 320, .inl IT)), ((ad 6), .inl (d 0, 40, .inl HE)), ((ad 7), .inl (d 0, 7, .inl OR)), ((ad 8), .inl (d 0, 6, .inl BO)), ((ad 9), .inl (d 0, 45, .inl VV)), ((ad 10), .inl (d 2, 2, .inl KP)), ((ad 11), .inl (d 0, 16, .inl TR))] : va_W)) (wm' := MW d ad (Int32.ofNat (gk g)) (Int32.ofNat t) gf gs fa fb fn fr w' TM MA LA IT HE OR BO VV KP TR) (mX0_pull_0 l D d cs (w0 ++ wi) ln lf dk dn him ha sa ta hv (Int32.ofNat t) gf (Int32.ofNat g) tra gs PA p1 _ h1) (mX9_pull l (XE D cs w0) XE.ok D d ad (Int32.ofNat g) (Int32.ofNat t) gf gs fa fb fn fr Ww p1 _ h2) rfl rfl ?_ (fun q hq => (List.mem_append.mp hq).elim Or.inl (fun hq => Or.inr (List.mem_append_right _ (List.mem_append_right _ (List.mem_append_right _ (List.mem_append_right _ hq)))))) ?_ ?_ ?_
      · refine hp.trans ?_
        refine pcountP (fun f g h1 h2 h3 h4 => ?_)
        simp only [SYS, MW, oV, hC, hcl, h1, h2, h3]
        omega
      · refine pcountP (fun f g h1 h2 h3 h4 => ?_)
        simp only [SYS, MW, oV, h1, h2, h3]
        omega
      · intro r u hu hap
        have e2 := past_new (d := d) (qa := qa) (PH := PH) (u := u) (q := q) hg hn
        refine ⟨hu, ?_⟩
        refine ⟨gf, gs, fa, fb, fn, fr, w', TM, MA, LA, IT, HE, OR, BO, VV, KP, TR, tra, tba, tm, TB, hv', tv, LI, BE, TA, TK, RW, (va_up PA g (some (u 0))), IA, rs, ria, (fun j => if j = g then u else qa j), xa, (pk PH g q), IH, ln, lf, dk, dn, wi, (gk g), t, rfl, ?_, ⟨Or.inr hc1, hc2, hI.keep (fun j a1 a2 => hc3 j (by omega) (by omega)), hRR, hRW, hTT, hTP, hGE, hTK, past_a1 hPA, past_a2 hg hPA2, hIA, him⟩⟩
        refine pcountP (fun f g h1 h2 h3 h4 => ?_)
        have e2_ := h4 _ _ e2
        simp only [SYS, MW, oV, hC, hcl, h1, h2, h3] at e2_ ⊢
        omega
      · intro r u hu
        refine ⟨hu, ?_⟩
        refine pcountP (fun f g h1 h2 h3 h4 => ?_)
        simp only [SYS, MW, oV, h1, h2, h3]
        omega
  · obtain ⟨ans, hv', qv', gc', PA', w', h1, h2, h3⟩ := act_pull_1 hT hP hk (PH i) p1
    have e1 := past_out (d := d) (qa := qa) (PH := PH) hi hp0
    rcases h3 with ⟨y1, y2, rfl, y4, y5⟩ | ⟨rfl, hr, hc1, hc2, hc3⟩
    · obtain rfl := y1.symm
      subst y2
      obtain rfl := y4.symm
      obtain rfl := y5.symm
      refine law_of (ans := ans) (wi := ((w0 ++ wi) ++ pool (wo (pC d PA qa PH) i) 24)) (wr := ([((sa 1), .inl (d 3, 8, .inr (.inr (.inr (.inr RW))))), ((sa 2), .inl (d 1, 110, .inl TA)), ((sa 4), .inl (d 4, 2, .inr (.inr (.inr (.inr IA))))), ((sa 5), .inl (d 0, 6, .inl LI)), ((sa 6), .inl (d 0, 6, .inl BE)), ((sa 7), .inl (d 5, 5, .inr (.inr (.inr (.inr TK))))), oV ta tv, aV d ta 1 (HHO tv), aV d ta 2 (HAT tv), aV d ta 3 (HTO tv), aV d ta 4 (HWE tv), aV d ta 5 (HHE tv), aV d ta 6 (HRA tv), (tra, .inr (4, [.ref tba, .int tm])), (tba, .inl (d 0, 16, .inl TB))] ++ (pool (rC d ria RW rs) 8 ++ (pool (wo (pC d PA qa PH) i) 24 ++ (pool (iC d IH xa) 2 ++ wi))) : va_W)) (wr9 := ([((ad 2), .inl (d 0, 110, .inl TM)), ((ad 3), .inl (d 0, 8, .inl MA)), ((ad 4), .inl (d 0, 8, .inl LA)), ((ad 5), .inl (d 0, 320, .inl IT)), ((ad 6), .inl (d 0, 40, .inl HE)), ((ad 7), .inl (d 0, 7, .inl OR)), ((ad 8), .inl (d 0, 6, .inl BO)), ((ad 9), .inl (d 0, 45, .inl VV)), ((ad 10), .inl (d 2, 2, .inl KP)), ((ad 11), .inl (d 0, 16, .inl TR))] : va_W)) (wm' := MW d ad (Int32.ofNat g) (Int32.ofNat t) gf gs fa fb fn fr Ww TM MA LA IT HE OR BO VV KP TR) (mX0_pull_1 l D d cs ((w0 ++ wi) ++ pool (wo (pC d PA qa PH) i) 24) ln lf dk dn (him.wide (fun q hq => List.mem_append_left _ hq)) ha (qa i) sa ta (pastH PA i) hv (PH i) (Int32.ofNat t) gf (Int32.ofNat g) tra gs PA p1 (pastH_hhs hPA) _ h1) (mX9_pull l (XE D cs w0) XE.ok D d ad (Int32.ofNat g) (Int32.ofNat t) gf gs fa fb fn fr Ww p1 _ h2) rfl rfl ?_ (fun q hq => (List.mem_append.mp hq).elim (fun h => (List.mem_append.mp h).elim Or.inl (fun h => Or.inr (List.mem_append_right _ (List.mem_append_right _ (List.mem_append_right _ (List.mem_append_right _ h)))))) (fun h => Or.inr (List.mem_append_right _ (List.mem_append_right _ (List.mem_append_left _ h))))) ?_ ?_ ?_
      · refine hp.trans ?_
        refine pcountP (fun f g h1 h2 h3 h4 => ?_)
        have e1_ := h4 _ _ e1
        simp only [SYS, MW, oV, hC, h1, h2, h3] at e1_ ⊢
        omega
      · refine pcountP (fun f g h1 h2 h3 h4 => ?_)
        simp only [SYS, MW, oV, h1, h2, h3]
        omega
      · intro r u hu hap
        refine ⟨hu, ?_⟩
        refine ⟨gf, gs, fa, fb, fn, fr, Ww, TM, MA, LA, IT, HE, OR, BO, VV, KP, TR, tra, tba, tm, TB, hv, tv, LI, BE, TA, TK, RW, PA, IA, rs, ria, qa, xa, PH, IH, ln, lf, dk, dn, wi, g, t, rfl, ?_, ⟨hT, hP, hI, hRR, hRW, hTT, hTP, hGE, hTK, hPA, hPA2, hIA, him⟩⟩
        refine pcountP (fun f g h1 h2 h3 h4 => ?_)
        have e1_ := h4 _ _ e1
        simp only [SYS, MW, oV, hC, h1, h2, h3] at e1_ ⊢
        omega
      · intro r u hu
        refine ⟨hu, ?_⟩
        refine pcountP (fun f g h1 h2 h3 h4 => ?_)
        simp only [SYS, MW, oV, h1, h2, h3]
        omega
    · obtain ⟨qa', e2, f1, f2⟩ := past_in (d := d) (PH := PH) (q := qv') hP.1 hi q1 q2 hp0 hr hPA hPA2
      refine law_of (ans := ans) (wi := ((w0 ++ wi) ++ pool (wo (pC d PA qa PH) i) 24)) (wr := ([((sa 1), .inl (d 3, 8, .inr (.inr (.inr (.inr RW))))), ((sa 2), .inl (d 1, 110, .inl TA)), ((sa 4), .inl (d 4, 2, .inr (.inr (.inr (.inr IA))))), ((sa 5), .inl (d 0, 6, .inl LI)), ((sa 6), .inl (d 0, 6, .inl BE)), ((sa 7), .inl (d 5, 5, .inr (.inr (.inr (.inr TK))))), oV ta tv, aV d ta 1 (HHO tv), aV d ta 2 (HAT tv), aV d ta 3 (HTO tv), aV d ta 4 (HWE tv), aV d ta 5 (HHE tv), aV d ta 6 (HRA tv), (tra, .inr (4, [.ref tba, .int tm])), (tba, .inl (d 0, 16, .inl TB))] ++ (pool (rC d ria RW rs) 8 ++ (pool (wo (pC d PA qa PH) i) 24 ++ (pool (iC d IH xa) 2 ++ wi))) : va_W)) (wr9 := ([((ad 2), .inl (d 0, 110, .inl TM)), ((ad 3), .inl (d 0, 8, .inl MA)), ((ad 4), .inl (d 0, 8, .inl LA)), ((ad 5), .inl (d 0, 320, .inl IT)), ((ad 6), .inl (d 0, 40, .inl HE)), ((ad 7), .inl (d 0, 7, .inl OR)), ((ad 8), .inl (d 0, 6, .inl BO)), ((ad 9), .inl (d 0, 45, .inl VV)), ((ad 10), .inl (d 2, 2, .inl KP)), ((ad 11), .inl (d 0, 16, .inl TR))] : va_W)) (wm' := MW d ad (Int32.ofNat (gk g)) (Int32.ofNat t) gf gs fa fb fn fr w' TM MA LA IT HE OR BO VV KP TR) (mX0_pull_1 l D d cs ((w0 ++ wi) ++ pool (wo (pC d PA qa PH) i) 24) ln lf dk dn (him.wide (fun q hq => List.mem_append_left _ hq)) ha (qa i) sa ta (pastH PA i) hv (PH i) (Int32.ofNat t) gf (Int32.ofNat g) tra gs PA p1 (pastH_hhs hPA) _ h1) (mX9_pull l (XE D cs w0) XE.ok D d ad (Int32.ofNat g) (Int32.ofNat t) gf gs fa fb fn fr Ww p1 _ h2) rfl rfl ?_ (fun q hq => (List.mem_append.mp hq).elim (fun h => (List.mem_append.mp h).elim Or.inl (fun h => Or.inr (List.mem_append_right _ (List.mem_append_right _ (List.mem_append_right _ (List.mem_append_right _ h)))))) (fun h => Or.inr (List.mem_append_right _ (List.mem_append_right _ (List.mem_append_left _ h))))) ?_ ?_ ?_
      · refine hp.trans ?_
        refine pcountP (fun f g h1 h2 h3 h4 => ?_)
        have e1_ := h4 _ _ e1
        simp only [SYS, MW, oV, hC, h1, h2, h3] at e1_ ⊢
        omega
      · refine pcountP (fun f g h1 h2 h3 h4 => ?_)
        simp only [SYS, MW, oV, h1, h2, h3]
        omega
      · intro r u hu hap
        refine ⟨hu, ?_⟩
        refine ⟨gf, gs, fa, fb, fn, fr, w', TM, MA, LA, IT, HE, OR, BO, VV, KP, TR, tra, tba, tm, TB, hv', tv, LI, BE, TA, TK, RW, PA', IA, rs, ria, qa', xa, (pk PH g qv'), IH, ln, lf, dk, dn, wi, (gk g), t, rfl, ?_, ⟨Or.inr hc1, hc2, hI.keep (fun j a1 a2 => hc3 j (by omega) (by omega)), hRR, hRW, hTT, hTP, hGE, hTK, f1, f2, hIA, him⟩⟩
        refine pcountP (fun f g h1 h2 h3 h4 => ?_)
        have e2_ := h4 _ _ e2
        simp only [SYS, MW, oV, hC, h1, h2, h3] at e2_ ⊢
        omega
      · intro r u hu
        refine ⟨hu, ?_⟩
        refine pcountP (fun f g h1 h2 h3 h4 => ?_)
        simp only [SYS, MW, oV, h1, h2, h3]
        omega
theorem L_rope {l : Launch} {D : va_G} {d : Nat → ClassId} {cs : Nat → Nat} {w0 : va_W} {sa ha ta ad : Nat → Nat} {ws wm : va_W} (h : RM d sa ha ta ad w0 ws wm) (p1 : Int32) : LawI l yX0_rope (ws_ yX0_rope cX0_rope 3 (some .int)) yX9_rope (ws_ yX9_rope cX9_rope 3 (some .int)) [.int p1] D d cs w0 (sa 0) (ad 0) ws wm (RM d sa ha ta ad w0) := by
  obtain ⟨gf, gs, fa, fb, fn, fr, Ww, TM, MA, LA, IT, HE, OR, BO, VV, KP, TR, tra, tba, tm, TB, hv, tv, LI, BE, TA, TK, RW, PA, IA, rs, ria, qa, xa, PH, IH, ln, lf, dk, dn, wi, g, t, rfl, hp, hF⟩ := h
  obtain ⟨hT, hP, hI, hRR, hRW, hTT, hTP, hGE, hTK, hPA, hPA2, hIA, him⟩ := hF
  rcases keep_case hP.1 hPA hPA2 with ⟨hg, hn⟩ | ⟨i, hi, q1, q2, hp0, hk⟩
  · obtain ⟨ans, made, hv', gc', q, w', h1, h2, h3⟩ := act_rope_0 hT hP hg hn p1
    have hcl : (Int32.ofNat g).toNatClampNeg = g := toClamp24 (by omega)
    rcases h3 with ⟨rfl, y2, rfl, y4⟩ | ⟨rfl, rfl, hc1, hc2, hc3⟩
    · obtain rfl := y2.symm
      obtain rfl := y4.symm
      refine law_of (ans := ans) (wi := (w0 ++ wi)) (wr := ([((sa 1), .inl (d 3, 8, .inr (.inr (.inr (.inr RW))))), ((sa 2), .inl (d 1, 110, .inl TA)), ((sa 4), .inl (d 4, 2, .inr (.inr (.inr (.inr IA))))), ((sa 5), .inl (d 0, 6, .inl LI)), ((sa 6), .inl (d 0, 6, .inl BE)), ((sa 7), .inl (d 5, 5, .inr (.inr (.inr (.inr TK))))), oV ta tv, aV d ta 1 (HHO tv), aV d ta 2 (HAT tv), aV d ta 3 (HTO tv), aV d ta 4 (HWE tv), aV d ta 5 (HHE tv), aV d ta 6 (HRA tv), (tra, .inr (4, [.ref tba, .int tm])), (tba, .inl (d 0, 16, .inl TB))] ++ (pool (rC d ria RW rs) 8 ++ (pool (pC d PA qa PH) 24 ++ (pool (iC d IH xa) 2 ++ wi))) : va_W)) (wr9 := ([((ad 2), .inl (d 0, 110, .inl TM)), ((ad 3), .inl (d 0, 8, .inl MA)), ((ad 4), .inl (d 0, 8, .inl LA)), ((ad 5), .inl (d 0, 320, .inl IT)), ((ad 6), .inl (d 0, 40, .inl HE)), ((ad 7), .inl (d 0, 7, .inl OR)), ((ad 8), .inl (d 0, 6, .inl BO)), ((ad 9), .inl (d 0, 45, .inl VV)), ((ad 10), .inl (d 2, 2, .inl KP)), ((ad 11), .inl (d 0, 16, .inl TR))] : va_W)) (wm' := MW d ad (Int32.ofNat g) (Int32.ofNat t) gf gs fa fb fn fr Ww TM MA LA IT HE OR BO VV KP TR) (mX0_rope_0 l D d cs (w0 ++ wi) ln lf dk dn him ha sa ta hv (Int32.ofNat t) gf (Int32.ofNat g) tra gs PA p1 _ h1) (mX9_rope l (XE D cs w0) XE.ok D d ad (Int32.ofNat g) (Int32.ofNat t) gf gs fa fb fn fr Ww p1 _ h2) rfl rfl ?_ (fun q hq => (List.mem_append.mp hq).elim Or.inl (fun hq => Or.inr (List.mem_append_right _ (List.mem_append_right _ (List.mem_append_right _ (List.mem_append_right _ hq)))))) ?_ ?_ ?_
      · refine hp.trans ?_
        refine pcountP (fun f g h1 h2 h3 h4 => ?_)
        simp only [SYS, MW, oV, h1, h2, h3]
        omega
      · refine pcountP (fun f g h1 h2 h3 h4 => ?_)
        simp only [SYS, MW, oV, h1, h2, h3]
        omega
      · intro r u hu hap
        refine ⟨hu, ?_⟩
        refine ⟨gf, gs, fa, fb, fn, fr, Ww, TM, MA, LA, IT, HE, OR, BO, VV, KP, TR, tra, tba, tm, TB, hv, tv, LI, BE, TA, TK, RW, PA, IA, rs, ria, qa, xa, PH, IH, ln, lf, dk, dn, wi, g, t, rfl, ?_, ⟨hT, hP, hI, hRR, hRW, hTT, hTP, hGE, hTK, hPA, hPA2, hIA, him⟩⟩
        refine pcountP (fun f g h1 h2 h3 h4 => ?_)
        simp only [SYS, MW, oV, h1, h2, h3]
        omega
      · intro r u hu
        refine ⟨hu, ?_⟩
        refine pcountP (fun f g h1 h2 h3 h4 => ?_)
        simp only [SYS, MW, oV, h1, h2, h3]
        omega
    · refine law_of (ans := ans) (wi := (w0 ++ wi)) (wr := ([((sa 1), .inl (d 3, 8, .inr (.inr (.inr (.inr RW))))), ((sa 2), .inl (d 1, 110, .inl TA)), ((sa 4), .inl (d 4, 2, .inr (.inr (.inr (.inr IA))))), ((sa 5), .inl (d 0, 6, .inl LI)), ((sa 6), .inl (d 0, 6, .inl BE)), ((sa 7), .inl (d 5, 5, .inr (.inr (.inr (.inr TK))))), oV ta tv, aV d ta 1 (HHO tv), aV d ta 2 (HAT tv), aV d ta 3 (HTO tv), aV d ta 4 (HWE tv), aV d ta 5 (HHE tv), aV d ta 6 (HRA tv), (tra, .inr (4, [.ref tba, .int tm])), (tba, .inl (d 0, 16, .inl TB))] ++ (pool (rC d ria RW rs) 8 ++ (pool (pC d PA qa PH) 24 ++ (pool (iC d IH xa) 2 ++ wi))) : va_W)) (wr9 := ([((ad 2), .inl (d 0, 110, .inl TM)), ((ad 3), .inl (d 0, 8, .inl MA)), ((ad 4), .inl (d 0, 8, .inl LA)), ((ad 5), .inl (d 0, 320, .inl IT)), ((ad 6), .inl (d 0, 40, .inl HE)), ((ad 7), .inl (d 0, 7, .inl OR)), ((ad 8), .inl (d 0, 6, .inl BO)), ((ad 9), .inl (d 0, 45, .inl VV)), ((ad 10), .inl (d 2, 2, .inl KP)), ((ad 11), .inl (d 0, 16, .inl TR))] : va_W)) (wm' := MW d ad (Int32.ofNat (gk g)) (Int32.ofNat t) gf gs fa fb fn fr w' TM MA LA IT HE OR BO VV KP TR) (mX0_rope_0 l D d cs (w0 ++ wi) ln lf dk dn him ha sa ta hv (Int32.ofNat t) gf (Int32.ofNat g) tra gs PA p1 _ h1) (mX9_rope l (XE D cs w0) XE.ok D d ad (Int32.ofNat g) (Int32.ofNat t) gf gs fa fb fn fr Ww p1 _ h2) rfl rfl ?_ (fun q hq => (List.mem_append.mp hq).elim Or.inl (fun hq => Or.inr (List.mem_append_right _ (List.mem_append_right _ (List.mem_append_right _ (List.mem_append_right _ hq)))))) ?_ ?_ ?_
      · refine hp.trans ?_
        refine pcountP (fun f g h1 h2 h3 h4 => ?_)
        simp only [SYS, MW, oV, hC, hcl, h1, h2, h3]
        omega
      · refine pcountP (fun f g h1 h2 h3 h4 => ?_)
        simp only [SYS, MW, oV, h1, h2, h3]
        omega
      · intro r u hu hap
        have e2 := past_new (d := d) (qa := qa) (PH := PH) (u := u) (q := q) hg hn
        refine ⟨hu, ?_⟩
        refine ⟨gf, gs, fa, fb, fn, fr, w', TM, MA, LA, IT, HE, OR, BO, VV, KP, TR, tra, tba, tm, TB, hv', tv, LI, BE, TA, TK, RW, (va_up PA g (some (u 0))), IA, rs, ria, (fun j => if j = g then u else qa j), xa, (pk PH g q), IH, ln, lf, dk, dn, wi, (gk g), t, rfl, ?_, ⟨Or.inr hc1, hc2, hI.keep (fun j a1 a2 => hc3 j (by omega) (by omega)), hRR, hRW, hTT, hTP, hGE, hTK, past_a1 hPA, past_a2 hg hPA2, hIA, him⟩⟩
        refine pcountP (fun f g h1 h2 h3 h4 => ?_)
        have e2_ := h4 _ _ e2
        simp only [SYS, MW, oV, hC, hcl, h1, h2, h3] at e2_ ⊢
        omega
      · intro r u hu
        refine ⟨hu, ?_⟩
        refine pcountP (fun f g h1 h2 h3 h4 => ?_)
        simp only [SYS, MW, oV, h1, h2, h3]
        omega
  · obtain ⟨ans, hv', qv', gc', PA', w', h1, h2, h3⟩ := act_rope_1 hT hP hk (PH i) p1
    have e1 := past_out (d := d) (qa := qa) (PH := PH) hi hp0
    rcases h3 with ⟨y1, y2, rfl, y4, y5⟩ | ⟨rfl, hr, hc1, hc2, hc3⟩
    · obtain rfl := y1.symm
      subst y2
      obtain rfl := y4.symm
      obtain rfl := y5.symm
      refine law_of (ans := ans) (wi := ((w0 ++ wi) ++ pool (wo (pC d PA qa PH) i) 24)) (wr := ([((sa 1), .inl (d 3, 8, .inr (.inr (.inr (.inr RW))))), ((sa 2), .inl (d 1, 110, .inl TA)), ((sa 4), .inl (d 4, 2, .inr (.inr (.inr (.inr IA))))), ((sa 5), .inl (d 0, 6, .inl LI)), ((sa 6), .inl (d 0, 6, .inl BE)), ((sa 7), .inl (d 5, 5, .inr (.inr (.inr (.inr TK))))), oV ta tv, aV d ta 1 (HHO tv), aV d ta 2 (HAT tv), aV d ta 3 (HTO tv), aV d ta 4 (HWE tv), aV d ta 5 (HHE tv), aV d ta 6 (HRA tv), (tra, .inr (4, [.ref tba, .int tm])), (tba, .inl (d 0, 16, .inl TB))] ++ (pool (rC d ria RW rs) 8 ++ (pool (wo (pC d PA qa PH) i) 24 ++ (pool (iC d IH xa) 2 ++ wi))) : va_W)) (wr9 := ([((ad 2), .inl (d 0, 110, .inl TM)), ((ad 3), .inl (d 0, 8, .inl MA)), ((ad 4), .inl (d 0, 8, .inl LA)), ((ad 5), .inl (d 0, 320, .inl IT)), ((ad 6), .inl (d 0, 40, .inl HE)), ((ad 7), .inl (d 0, 7, .inl OR)), ((ad 8), .inl (d 0, 6, .inl BO)), ((ad 9), .inl (d 0, 45, .inl VV)), ((ad 10), .inl (d 2, 2, .inl KP)), ((ad 11), .inl (d 0, 16, .inl TR))] : va_W)) (wm' := MW d ad (Int32.ofNat g) (Int32.ofNat t) gf gs fa fb fn fr Ww TM MA LA IT HE OR BO VV KP TR) (mX0_rope_1 l D d cs ((w0 ++ wi) ++ pool (wo (pC d PA qa PH) i) 24) ln lf dk dn (him.wide (fun q hq => List.mem_append_left _ hq)) ha (qa i) sa ta (pastH PA i) hv (PH i) (Int32.ofNat t) gf (Int32.ofNat g) tra gs PA p1 (pastH_hhs hPA) _ h1) (mX9_rope l (XE D cs w0) XE.ok D d ad (Int32.ofNat g) (Int32.ofNat t) gf gs fa fb fn fr Ww p1 _ h2) rfl rfl ?_ (fun q hq => (List.mem_append.mp hq).elim (fun h => (List.mem_append.mp h).elim Or.inl (fun h => Or.inr (List.mem_append_right _ (List.mem_append_right _ (List.mem_append_right _ (List.mem_append_right _ h)))))) (fun h => Or.inr (List.mem_append_right _ (List.mem_append_right _ (List.mem_append_left _ h))))) ?_ ?_ ?_
      · refine hp.trans ?_
        refine pcountP (fun f g h1 h2 h3 h4 => ?_)
        have e1_ := h4 _ _ e1
        simp only [SYS, MW, oV, hC, h1, h2, h3] at e1_ ⊢
        omega
      · refine pcountP (fun f g h1 h2 h3 h4 => ?_)
        simp only [SYS, MW, oV, h1, h2, h3]
        omega
      · intro r u hu hap
        refine ⟨hu, ?_⟩
        refine ⟨gf, gs, fa, fb, fn, fr, Ww, TM, MA, LA, IT, HE, OR, BO, VV, KP, TR, tra, tba, tm, TB, hv, tv, LI, BE, TA, TK, RW, PA, IA, rs, ria, qa, xa, PH, IH, ln, lf, dk, dn, wi, g, t, rfl, ?_, ⟨hT, hP, hI, hRR, hRW, hTT, hTP, hGE, hTK, hPA, hPA2, hIA, him⟩⟩
        refine pcountP (fun f g h1 h2 h3 h4 => ?_)
        have e1_ := h4 _ _ e1
        simp only [SYS, MW, oV, hC, h1, h2, h3] at e1_ ⊢
        omega
      · intro r u hu
        refine ⟨hu, ?_⟩
        refine pcountP (fun f g h1 h2 h3 h4 => ?_)
        simp only [SYS, MW, oV, h1, h2, h3]
        omega
    · obtain ⟨qa', e2, f1, f2⟩ := past_in (d := d) (PH := PH) (q := qv') hP.1 hi q1 q2 hp0 hr hPA hPA2
      refine law_of (ans := ans) (wi := ((w0 ++ wi) ++ pool (wo (pC d PA qa PH) i) 24)) (wr := ([((sa 1), .inl (d 3, 8, .inr (.inr (.inr (.inr RW))))), ((sa 2), .inl (d 1, 110, .inl TA)), ((sa 4), .inl (d 4, 2, .inr (.inr (.inr (.inr IA))))), ((sa 5), .inl (d 0, 6, .inl LI)), ((sa 6), .inl (d 0, 6, .inl BE)), ((sa 7), .inl (d 5, 5, .inr (.inr (.inr (.inr TK))))), oV ta tv, aV d ta 1 (HHO tv), aV d ta 2 (HAT tv), aV d ta 3 (HTO tv), aV d ta 4 (HWE tv), aV d ta 5 (HHE tv), aV d ta 6 (HRA tv), (tra, .inr (4, [.ref tba, .int tm])), (tba, .inl (d 0, 16, .inl TB))] ++ (pool (rC d ria RW rs) 8 ++ (pool (wo (pC d PA qa PH) i) 24 ++ (pool (iC d IH xa) 2 ++ wi))) : va_W)) (wr9 := ([((ad 2), .inl (d 0, 110, .inl TM)), ((ad 3), .inl (d 0, 8, .inl MA)), ((ad 4), .inl (d 0, 8, .inl LA)), ((ad 5), .inl (d 0, 320, .inl IT)), ((ad 6), .inl (d 0, 40, .inl HE)), ((ad 7), .inl (d 0, 7, .inl OR)), ((ad 8), .inl (d 0, 6, .inl BO)), ((ad 9), .inl (d 0, 45, .inl VV)), ((ad 10), .inl (d 2, 2, .inl KP)), ((ad 11), .inl (d 0, 16, .inl TR))] : va_W)) (wm' := MW d ad (Int32.ofNat (gk g)) (Int32.ofNat t) gf gs fa fb fn fr w' TM MA LA IT HE OR BO VV KP TR) (mX0_rope_1 l D d cs ((w0 ++ wi) ++ pool (wo (pC d PA qa PH) i) 24) ln lf dk dn (him.wide (fun q hq => List.mem_append_left _ hq)) ha (qa i) sa ta (pastH PA i) hv (PH i) (Int32.ofNat t) gf (Int32.ofNat g) tra gs PA p1 (pastH_hhs hPA) _ h1) (mX9_rope l (XE D cs w0) XE.ok D d ad (Int32.ofNat g) (Int32.ofNat t) gf gs fa fb fn fr Ww p1 _ h2) rfl rfl ?_ (fun q hq => (List.mem_append.mp hq).elim (fun h => (List.mem_append.mp h).elim Or.inl (fun h => Or.inr (List.mem_append_right _ (List.mem_append_right _ (List.mem_append_right _ (List.mem_append_right _ h)))))) (fun h => Or.inr (List.mem_append_right _ (List.mem_append_right _ (List.mem_append_left _ h))))) ?_ ?_ ?_
      · refine hp.trans ?_
        refine pcountP (fun f g h1 h2 h3 h4 => ?_)
        have e1_ := h4 _ _ e1
        simp only [SYS, MW, oV, hC, h1, h2, h3] at e1_ ⊢
        omega
      · refine pcountP (fun f g h1 h2 h3 h4 => ?_)
        simp only [SYS, MW, oV, h1, h2, h3]
        omega
      · intro r u hu hap
        refine ⟨hu, ?_⟩
        refine ⟨gf, gs, fa, fb, fn, fr, w', TM, MA, LA, IT, HE, OR, BO, VV, KP, TR, tra, tba, tm, TB, hv', tv, LI, BE, TA, TK, RW, PA', IA, rs, ria, qa', xa, (pk PH g qv'), IH, ln, lf, dk, dn, wi, (gk g), t, rfl, ?_, ⟨Or.inr hc1, hc2, hI.keep (fun j a1 a2 => hc3 j (by omega) (by omega)), hRR, hRW, hTT, hTP, hGE, hTK, f1, f2, hIA, him⟩⟩
        refine pcountP (fun f g h1 h2 h3 h4 => ?_)
        have e2_ := h4 _ _ e2
        simp only [SYS, MW, oV, hC, h1, h2, h3] at e2_ ⊢
        omega
      · intro r u hu
        refine ⟨hu, ?_⟩
        refine pcountP (fun f g h1 h2 h3 h4 => ?_)
        simp only [SYS, MW, oV, h1, h2, h3]
        omega
theorem L_room {l : Launch} {D : va_G} {d : Nat → ClassId} {cs : Nat → Nat} {w0 : va_W} {sa ha ta ad : Nat → Nat} {ws wm : va_W} (h : RM d sa ha ta ad w0 ws wm) (p1 : Int32) : LawI l yX0_room (ws_ yX0_room cX0_room 3 (some .int)) yX9_room (ws_ yX9_room cX9_room 3 (some .int)) [.int p1] D d cs w0 (sa 0) (ad 0) ws wm (RM d sa ha ta ad w0) := by
  obtain ⟨gf, gs, fa, fb, fn, fr, Ww, TM, MA, LA, IT, HE, OR, BO, VV, KP, TR, tra, tba, tm, TB, hv, tv, LI, BE, TA, TK, RW, PA, IA, rs, ria, qa, xa, PH, IH, ln, lf, dk, dn, wi, g, t, rfl, hp, hF⟩ := h
  obtain ⟨hT, hP, hI, hRR, hRW, hTT, hTP, hGE, hTK, hPA, hPA2, hIA, him⟩ := hF
  rcases keep_case hP.1 hPA hPA2 with ⟨hg, hn⟩ | ⟨i, hi, q1, q2, hp0, hk⟩
  · obtain ⟨ans, made, hv', gc', q, w', h1, h2, h3⟩ := act_room_0 hT hP hg hn p1
    have hcl : (Int32.ofNat g).toNatClampNeg = g := toClamp24 (by omega)
    rcases h3 with ⟨rfl, y2, rfl, y4⟩ | ⟨rfl, rfl, hc1, hc2, hc3⟩
    · obtain rfl := y2.symm
      obtain rfl := y4.symm
      refine law_of (ans := ans) (wi := (w0 ++ wi)) (wr := ([((sa 1), .inl (d 3, 8, .inr (.inr (.inr (.inr RW))))), ((sa 2), .inl (d 1, 110, .inl TA)), ((sa 4), .inl (d 4, 2, .inr (.inr (.inr (.inr IA))))), ((sa 5), .inl (d 0, 6, .inl LI)), ((sa 6), .inl (d 0, 6, .inl BE)), ((sa 7), .inl (d 5, 5, .inr (.inr (.inr (.inr TK))))), oV ta tv, aV d ta 1 (HHO tv), aV d ta 2 (HAT tv), aV d ta 3 (HTO tv), aV d ta 4 (HWE tv), aV d ta 5 (HHE tv), aV d ta 6 (HRA tv), (tra, .inr (4, [.ref tba, .int tm])), (tba, .inl (d 0, 16, .inl TB))] ++ (pool (rC d ria RW rs) 8 ++ (pool (pC d PA qa PH) 24 ++ (pool (iC d IH xa) 2 ++ wi))) : va_W)) (wr9 := ([((ad 2), .inl (d 0, 110, .inl TM)), ((ad 3), .inl (d 0, 8, .inl MA)), ((ad 4), .inl (d 0, 8, .inl LA)), ((ad 5), .inl (d 0, 320, .inl IT)), ((ad 6), .inl (d 0, 40, .inl HE)), ((ad 7), .inl (d 0, 7, .inl OR)), ((ad 8), .inl (d 0, 6, .inl BO)), ((ad 9), .inl (d 0, 45, .inl VV)), ((ad 10), .inl (d 2, 2, .inl KP)), ((ad 11), .inl (d 0, 16, .inl TR))] : va_W)) (wm' := MW d ad (Int32.ofNat g) (Int32.ofNat t) gf gs fa fb fn fr Ww TM MA LA IT HE OR BO VV KP TR) (mX0_room_0 l D d cs (w0 ++ wi) ln lf dk dn him ha sa ta hv (Int32.ofNat t) gf (Int32.ofNat g) tra gs PA p1 _ h1) (mX9_room l (XE D cs w0) XE.ok D d ad (Int32.ofNat g) (Int32.ofNat t) gf gs fa fb fn fr Ww p1 _ h2) rfl rfl ?_ (fun q hq => (List.mem_append.mp hq).elim Or.inl (fun hq => Or.inr (List.mem_append_right _ (List.mem_append_right _ (List.mem_append_right _ (List.mem_append_right _ hq)))))) ?_ ?_ ?_
      · refine hp.trans ?_
        refine pcountP (fun f g h1 h2 h3 h4 => ?_)
        simp only [SYS, MW, oV, h1, h2, h3]
        omega
      · refine pcountP (fun f g h1 h2 h3 h4 => ?_)
        simp only [SYS, MW, oV, h1, h2, h3]
        omega
      · intro r u hu hap
        refine ⟨hu, ?_⟩
        refine ⟨gf, gs, fa, fb, fn, fr, Ww, TM, MA, LA, IT, HE, OR, BO, VV, KP, TR, tra, tba, tm, TB, hv, tv, LI, BE, TA, TK, RW, PA, IA, rs, ria, qa, xa, PH, IH, ln, lf, dk, dn, wi, g, t, rfl, ?_, ⟨hT, hP, hI, hRR, hRW, hTT, hTP, hGE, hTK, hPA, hPA2, hIA, him⟩⟩
        refine pcountP (fun f g h1 h2 h3 h4 => ?_)
        simp only [SYS, MW, oV, h1, h2, h3]
        omega
      · intro r u hu
        refine ⟨hu, ?_⟩
        refine pcountP (fun f g h1 h2 h3 h4 => ?_)
        simp only [SYS, MW, oV, h1, h2, h3]
        omega
    · refine law_of (ans := ans) (wi := (w0 ++ wi)) (wr := ([((sa 1), .inl (d 3, 8, .inr (.inr (.inr (.inr RW))))), ((sa 2), .inl (d 1, 110, .inl TA)), ((sa 4), .inl (d 4, 2, .inr (.inr (.inr (.inr IA))))), ((sa 5), .inl (d 0, 6, .inl LI)), ((sa 6), .inl (d 0, 6, .inl BE)), ((sa 7), .inl (d 5, 5, .inr (.inr (.inr (.inr TK))))), oV ta tv, aV d ta 1 (HHO tv), aV d ta 2 (HAT tv), aV d ta 3 (HTO tv), aV d ta 4 (HWE tv), aV d ta 5 (HHE tv), aV d ta 6 (HRA tv), (tra, .inr (4, [.ref tba, .int tm])), (tba, .inl (d 0, 16, .inl TB))] ++ (pool (rC d ria RW rs) 8 ++ (pool (pC d PA qa PH) 24 ++ (pool (iC d IH xa) 2 ++ wi))) : va_W)) (wr9 := ([((ad 2), .inl (d 0, 110, .inl TM)), ((ad 3), .inl (d 0, 8, .inl MA)), ((ad 4), .inl (d 0, 8, .inl LA)), ((ad 5), .inl (d 0, 320, .inl IT)), ((ad 6), .inl (d 0, 40, .inl HE)), ((ad 7), .inl (d 0, 7, .inl OR)), ((ad 8), .inl (d 0, 6, .inl BO)), ((ad 9), .inl (d 0, 45, .inl VV)), ((ad 10), .inl (d 2, 2, .inl KP)), ((ad 11), .inl (d 0, 16, .inl TR))] : va_W)) (wm' := MW d ad (Int32.ofNat (gk g)) (Int32.ofNat t) gf gs fa fb fn fr w' TM MA LA IT HE OR BO VV KP TR) (mX0_room_0 l D d cs (w0 ++ wi) ln lf dk dn him ha sa ta hv (Int32.ofNat t) gf (Int32.ofNat g) tra gs PA p1 _ h1) (mX9_room l (XE D cs w0) XE.ok D d ad (Int32.ofNat g) (Int32.ofNat t) gf gs fa fb fn fr Ww p1 _ h2) rfl rfl ?_ (fun q hq => (List.mem_append.mp hq).elim Or.inl (fun hq => Or.inr (List.mem_append_right _ (List.mem_append_right _ (List.mem_append_right _ (List.mem_append_right _ hq)))))) ?_ ?_ ?_
      · refine hp.trans ?_
        refine pcountP (fun f g h1 h2 h3 h4 => ?_)
        simp only [SYS, MW, oV, hC, hcl, h1, h2, h3]
        omega
      · refine pcountP (fun f g h1 h2 h3 h4 => ?_)
        simp only [SYS, MW, oV, h1, h2, h3]
        omega
      · intro r u hu hap
        have e2 := past_new (d := d) (qa := qa) (PH := PH) (u := u) (q := q) hg hn
        refine ⟨hu, ?_⟩
        refine ⟨gf, gs, fa, fb, fn, fr, w', TM, MA, LA, IT, HE, OR, BO, VV, KP, TR, tra, tba, tm, TB, hv', tv, LI, BE, TA, TK, RW, (va_up PA g (some (u 0))), IA, rs, ria, (fun j => if j = g then u else qa j), xa, (pk PH g q), IH, ln, lf, dk, dn, wi, (gk g), t, rfl, ?_, ⟨Or.inr hc1, hc2, hI.keep (fun j a1 a2 => hc3 j (by omega) (by omega)), hRR, hRW, hTT, hTP, hGE, hTK, past_a1 hPA, past_a2 hg hPA2, hIA, him⟩⟩
        refine pcountP (fun f g h1 h2 h3 h4 => ?_)
        have e2_ := h4 _ _ e2
        simp only [SYS, MW, oV, hC, hcl, h1, h2, h3] at e2_ ⊢
        omega
      · intro r u hu
        refine ⟨hu, ?_⟩
        refine pcountP (fun f g h1 h2 h3 h4 => ?_)
        simp only [SYS, MW, oV, h1, h2, h3]
        omega
  · obtain ⟨ans, hv', qv', gc', PA', w', h1, h2, h3⟩ := act_room_1 hT hP hk (PH i) p1
    have e1 := past_out (d := d) (qa := qa) (PH := PH) hi hp0
    rcases h3 with ⟨y1, y2, rfl, y4, y5⟩ | ⟨rfl, hr, hc1, hc2, hc3⟩
    · obtain rfl := y1.symm
      subst y2
      obtain rfl := y4.symm
      obtain rfl := y5.symm
      refine law_of (ans := ans) (wi := ((w0 ++ wi) ++ pool (wo (pC d PA qa PH) i) 24)) (wr := ([((sa 1), .inl (d 3, 8, .inr (.inr (.inr (.inr RW))))), ((sa 2), .inl (d 1, 110, .inl TA)), ((sa 4), .inl (d 4, 2, .inr (.inr (.inr (.inr IA))))), ((sa 5), .inl (d 0, 6, .inl LI)), ((sa 6), .inl (d 0, 6, .inl BE)), ((sa 7), .inl (d 5, 5, .inr (.inr (.inr (.inr TK))))), oV ta tv, aV d ta 1 (HHO tv), aV d ta 2 (HAT tv), aV d ta 3 (HTO tv), aV d ta 4 (HWE tv), aV d ta 5 (HHE tv), aV d ta 6 (HRA tv), (tra, .inr (4, [.ref tba, .int tm])), (tba, .inl (d 0, 16, .inl TB))] ++ (pool (rC d ria RW rs) 8 ++ (pool (wo (pC d PA qa PH) i) 24 ++ (pool (iC d IH xa) 2 ++ wi))) : va_W)) (wr9 := ([((ad 2), .inl (d 0, 110, .inl TM)), ((ad 3), .inl (d 0, 8, .inl MA)), ((ad 4), .inl (d 0, 8, .inl LA)), ((ad 5), .inl (d 0, 320, .inl IT)), ((ad 6), .inl (d 0, 40, .inl HE)), ((ad 7), .inl (d 0, 7, .inl OR)), ((ad 8), .inl (d 0, 6, .inl BO)), ((ad 9), .inl (d 0, 45, .inl VV)), ((ad 10), .inl (d 2, 2, .inl KP)), ((ad 11), .inl (d 0, 16, .inl TR))] : va_W)) (wm' := MW d ad (Int32.ofNat g) (Int32.ofNat t) gf gs fa fb fn fr Ww TM MA LA IT HE OR BO VV KP TR) (mX0_room_1 l D d cs ((w0 ++ wi) ++ pool (wo (pC d PA qa PH) i) 24) ln lf dk dn (him.wide (fun q hq => List.mem_append_left _ hq)) ha (qa i) sa ta (pastH PA i) hv (PH i) (Int32.ofNat t) gf (Int32.ofNat g) tra gs PA p1 (pastH_hhs hPA) _ h1) (mX9_room l (XE D cs w0) XE.ok D d ad (Int32.ofNat g) (Int32.ofNat t) gf gs fa fb fn fr Ww p1 _ h2) rfl rfl ?_ (fun q hq => (List.mem_append.mp hq).elim (fun h => (List.mem_append.mp h).elim Or.inl (fun h => Or.inr (List.mem_append_right _ (List.mem_append_right _ (List.mem_append_right _ (List.mem_append_right _ h)))))) (fun h => Or.inr (List.mem_append_right _ (List.mem_append_right _ (List.mem_append_left _ h))))) ?_ ?_ ?_
      · refine hp.trans ?_
        refine pcountP (fun f g h1 h2 h3 h4 => ?_)
        have e1_ := h4 _ _ e1
        simp only [SYS, MW, oV, hC, h1, h2, h3] at e1_ ⊢
        omega
      · refine pcountP (fun f g h1 h2 h3 h4 => ?_)
        simp only [SYS, MW, oV, h1, h2, h3]
        omega
      · intro r u hu hap
        refine ⟨hu, ?_⟩
        refine ⟨gf, gs, fa, fb, fn, fr, Ww, TM, MA, LA, IT, HE, OR, BO, VV, KP, TR, tra, tba, tm, TB, hv, tv, LI, BE, TA, TK, RW, PA, IA, rs, ria, qa, xa, PH, IH, ln, lf, dk, dn, wi, g, t, rfl, ?_, ⟨hT, hP, hI, hRR, hRW, hTT, hTP, hGE, hTK, hPA, hPA2, hIA, him⟩⟩
        refine pcountP (fun f g h1 h2 h3 h4 => ?_)
        have e1_ := h4 _ _ e1
        simp only [SYS, MW, oV, hC, h1, h2, h3] at e1_ ⊢
        omega
      · intro r u hu
        refine ⟨hu, ?_⟩
        refine pcountP (fun f g h1 h2 h3 h4 => ?_)
        simp only [SYS, MW, oV, h1, h2, h3]
        omega
    · obtain ⟨qa', e2, f1, f2⟩ := past_in (d := d) (PH := PH) (q := qv') hP.1 hi q1 q2 hp0 hr hPA hPA2
      refine law_of (ans := ans) (wi := ((w0 ++ wi) ++ pool (wo (pC d PA qa PH) i) 24)) (wr := ([((sa 1), .inl (d 3, 8, .inr (.inr (.inr (.inr RW))))), ((sa 2), .inl (d 1, 110, .inl TA)), ((sa 4), .inl (d 4, 2, .inr (.inr (.inr (.inr IA))))), ((sa 5), .inl (d 0, 6, .inl LI)), ((sa 6), .inl (d 0, 6, .inl BE)), ((sa 7), .inl (d 5, 5, .inr (.inr (.inr (.inr TK))))), oV ta tv, aV d ta 1 (HHO tv), aV d ta 2 (HAT tv), aV d ta 3 (HTO tv), aV d ta 4 (HWE tv), aV d ta 5 (HHE tv), aV d ta 6 (HRA tv), (tra, .inr (4, [.ref tba, .int tm])), (tba, .inl (d 0, 16, .inl TB))] ++ (pool (rC d ria RW rs) 8 ++ (pool (wo (pC d PA qa PH) i) 24 ++ (pool (iC d IH xa) 2 ++ wi))) : va_W)) (wr9 := ([((ad 2), .inl (d 0, 110, .inl TM)), ((ad 3), .inl (d 0, 8, .inl MA)), ((ad 4), .inl (d 0, 8, .inl LA)), ((ad 5), .inl (d 0, 320, .inl IT)), ((ad 6), .inl (d 0, 40, .inl HE)), ((ad 7), .inl (d 0, 7, .inl OR)), ((ad 8), .inl (d 0, 6, .inl BO)), ((ad 9), .inl (d 0, 45, .inl VV)), ((ad 10), .inl (d 2, 2, .inl KP)), ((ad 11), .inl (d 0, 16, .inl TR))] : va_W)) (wm' := MW d ad (Int32.ofNat (gk g)) (Int32.ofNat t) gf gs fa fb fn fr w' TM MA LA IT HE OR BO VV KP TR) (mX0_room_1 l D d cs ((w0 ++ wi) ++ pool (wo (pC d PA qa PH) i) 24) ln lf dk dn (him.wide (fun q hq => List.mem_append_left _ hq)) ha (qa i) sa ta (pastH PA i) hv (PH i) (Int32.ofNat t) gf (Int32.ofNat g) tra gs PA p1 (pastH_hhs hPA) _ h1) (mX9_room l (XE D cs w0) XE.ok D d ad (Int32.ofNat g) (Int32.ofNat t) gf gs fa fb fn fr Ww p1 _ h2) rfl rfl ?_ (fun q hq => (List.mem_append.mp hq).elim (fun h => (List.mem_append.mp h).elim Or.inl (fun h => Or.inr (List.mem_append_right _ (List.mem_append_right _ (List.mem_append_right _ (List.mem_append_right _ h)))))) (fun h => Or.inr (List.mem_append_right _ (List.mem_append_right _ (List.mem_append_left _ h))))) ?_ ?_ ?_
      · refine hp.trans ?_
        refine pcountP (fun f g h1 h2 h3 h4 => ?_)
        have e1_ := h4 _ _ e1
        simp only [SYS, MW, oV, hC, h1, h2, h3] at e1_ ⊢
        omega
      · refine pcountP (fun f g h1 h2 h3 h4 => ?_)
        simp only [SYS, MW, oV, h1, h2, h3]
        omega
      · intro r u hu hap
        refine ⟨hu, ?_⟩
        refine ⟨gf, gs, fa, fb, fn, fr, w', TM, MA, LA, IT, HE, OR, BO, VV, KP, TR, tra, tba, tm, TB, hv', tv, LI, BE, TA, TK, RW, PA', IA, rs, ria, qa', xa, (pk PH g qv'), IH, ln, lf, dk, dn, wi, (gk g), t, rfl, ?_, ⟨Or.inr hc1, hc2, hI.keep (fun j a1 a2 => hc3 j (by omega) (by omega)), hRR, hRW, hTT, hTP, hGE, hTK, f1, f2, hIA, him⟩⟩
        refine pcountP (fun f g h1 h2 h3 h4 => ?_)
        have e2_ := h4 _ _ e2
        simp only [SYS, MW, oV, hC, h1, h2, h3] at e2_ ⊢
        omega
      · intro r u hu
        refine ⟨hu, ?_⟩
        refine pcountP (fun f g h1 h2 h3 h4 => ?_)
        simp only [SYS, MW, oV, h1, h2, h3]
        omega
theorem L_send {l : Launch} {D : va_G} {d : Nat → ClassId} {cs : Nat → Nat} {w0 : va_W} {sa ha ta ad : Nat → Nat} {ws wm : va_W} (h : RM d sa ha ta ad w0 ws wm) (p1 p2 p3 : Int32) : LawI l yX0_send (ws_ yX0_send cX0_send 4 (some .int)) yX9_send (ws_ yX9_send cX9_send 4 (some .int)) [.int p1, .int p2, .int p3] D d cs w0 (sa 0) (ad 0) ws wm (RM d sa ha ta ad w0) := by
  obtain ⟨gf, gs, fa, fb, fn, fr, Ww, TM, MA, LA, IT, HE, OR, BO, VV, KP, TR, tra, tba, tm, TB, hv, tv, LI, BE, TA, TK, RW, PA, IA, rs, ria, qa, xa, PH, IH, ln, lf, dk, dn, wi, g, t, rfl, hp, hF⟩ := h
  obtain ⟨hT, hP, hI, hRR, hRW, hTT, hTP, hGE, hTK, hPA, hPA2, hIA, him⟩ := hF
  rcases keep_case hP.1 hPA hPA2 with ⟨hg, hn⟩ | ⟨i, hi, q1, q2, hp0, hk⟩
  · obtain ⟨ans, made, hv', gc', q, w', h1, h2, h3⟩ := act_send_0 hT hP hg hn p1 p2 p3
    have hcl : (Int32.ofNat g).toNatClampNeg = g := toClamp24 (by omega)
    rcases h3 with ⟨rfl, y2, rfl, y4⟩ | ⟨rfl, rfl, hc1, hc2, hc3⟩
    · obtain rfl := y2.symm
      obtain rfl := y4.symm
      refine law_of (ans := ans) (wi := (w0 ++ wi)) (wr := ([((sa 1), .inl (d 3, 8, .inr (.inr (.inr (.inr RW))))), ((sa 2), .inl (d 1, 110, .inl TA)), ((sa 4), .inl (d 4, 2, .inr (.inr (.inr (.inr IA))))), ((sa 5), .inl (d 0, 6, .inl LI)), ((sa 6), .inl (d 0, 6, .inl BE)), ((sa 7), .inl (d 5, 5, .inr (.inr (.inr (.inr TK))))), oV ta tv, aV d ta 1 (HHO tv), aV d ta 2 (HAT tv), aV d ta 3 (HTO tv), aV d ta 4 (HWE tv), aV d ta 5 (HHE tv), aV d ta 6 (HRA tv), (tra, .inr (4, [.ref tba, .int tm])), (tba, .inl (d 0, 16, .inl TB))] ++ (pool (rC d ria RW rs) 8 ++ (pool (pC d PA qa PH) 24 ++ (pool (iC d IH xa) 2 ++ wi))) : va_W)) (wr9 := ([((ad 2), .inl (d 0, 110, .inl TM)), ((ad 3), .inl (d 0, 8, .inl MA)), ((ad 4), .inl (d 0, 8, .inl LA)), ((ad 5), .inl (d 0, 320, .inl IT)), ((ad 6), .inl (d 0, 40, .inl HE)), ((ad 7), .inl (d 0, 7, .inl OR)), ((ad 8), .inl (d 0, 6, .inl BO)), ((ad 9), .inl (d 0, 45, .inl VV)), ((ad 10), .inl (d 2, 2, .inl KP)), ((ad 11), .inl (d 0, 16, .inl TR))] : va_W)) (wm' := MW d ad (Int32.ofNat g) (Int32.ofNat t) gf gs fa fb fn fr Ww TM MA LA IT HE OR BO VV KP TR) (mX0_send_0 l D d cs (w0 ++ wi) ln lf dk dn him ha sa ta hv (Int32.ofNat t) gf (Int32.ofNat g) tra gs PA p1 p2 p3 _ h1) (mX9_send l (XE D cs w0) XE.ok D d ad (Int32.ofNat g) (Int32.ofNat t) gf gs fa fb fn fr Ww p1 p2 p3 _ h2) rfl rfl ?_ (fun q hq => (List.mem_append.mp hq).elim Or.inl (fun hq => Or.inr (List.mem_append_right _ (List.mem_append_right _ (List.mem_append_right _ (List.mem_append_right _ hq)))))) ?_ ?_ ?_
      · refine hp.trans ?_
        refine pcountP (fun f g h1 h2 h3 h4 => ?_)
        simp only [SYS, MW, oV, h1, h2, h3]
        omega
      · refine pcountP (fun f g h1 h2 h3 h4 => ?_)
        simp only [SYS, MW, oV, h1, h2, h3]
        omega
      · intro r u hu hap
        refine ⟨hu, ?_⟩
        refine ⟨gf, gs, fa, fb, fn, fr, Ww, TM, MA, LA, IT, HE, OR, BO, VV, KP, TR, tra, tba, tm, TB, hv, tv, LI, BE, TA, TK, RW, PA, IA, rs, ria, qa, xa, PH, IH, ln, lf, dk, dn, wi, g, t, rfl, ?_, ⟨hT, hP, hI, hRR, hRW, hTT, hTP, hGE, hTK, hPA, hPA2, hIA, him⟩⟩
        refine pcountP (fun f g h1 h2 h3 h4 => ?_)
        simp only [SYS, MW, oV, h1, h2, h3]
        omega
      · intro r u hu
        refine ⟨hu, ?_⟩
        refine pcountP (fun f g h1 h2 h3 h4 => ?_)
        simp only [SYS, MW, oV, h1, h2, h3]
        omega
    · refine law_of (ans := ans) (wi := (w0 ++ wi)) (wr := ([((sa 1), .inl (d 3, 8, .inr (.inr (.inr (.inr RW))))), ((sa 2), .inl (d 1, 110, .inl TA)), ((sa 4), .inl (d 4, 2, .inr (.inr (.inr (.inr IA))))), ((sa 5), .inl (d 0, 6, .inl LI)), ((sa 6), .inl (d 0, 6, .inl BE)), ((sa 7), .inl (d 5, 5, .inr (.inr (.inr (.inr TK))))), oV ta tv, aV d ta 1 (HHO tv), aV d ta 2 (HAT tv), aV d ta 3 (HTO tv), aV d ta 4 (HWE tv), aV d ta 5 (HHE tv), aV d ta 6 (HRA tv), (tra, .inr (4, [.ref tba, .int tm])), (tba, .inl (d 0, 16, .inl TB))] ++ (pool (rC d ria RW rs) 8 ++ (pool (pC d PA qa PH) 24 ++ (pool (iC d IH xa) 2 ++ wi))) : va_W)) (wr9 := ([((ad 2), .inl (d 0, 110, .inl TM)), ((ad 3), .inl (d 0, 8, .inl MA)), ((ad 4), .inl (d 0, 8, .inl LA)), ((ad 5), .inl (d 0, 320, .inl IT)), ((ad 6), .inl (d 0, 40, .inl HE)), ((ad 7), .inl (d 0, 7, .inl OR)), ((ad 8), .inl (d 0, 6, .inl BO)), ((ad 9), .inl (d 0, 45, .inl VV)), ((ad 10), .inl (d 2, 2, .inl KP)), ((ad 11), .inl (d 0, 16, .inl TR))] : va_W)) (wm' := MW d ad (Int32.ofNat (gk g)) (Int32.ofNat t) gf gs fa fb fn fr w' TM MA LA IT HE OR BO VV KP TR) (mX0_send_0 l D d cs (w0 ++ wi) ln lf dk dn him ha sa ta hv (Int32.ofNat t) gf (Int32.ofNat g) tra gs PA p1 p2 p3 _ h1) (mX9_send l (XE D cs w0) XE.ok D d ad (Int32.ofNat g) (Int32.ofNat t) gf gs fa fb fn fr Ww p1 p2 p3 _ h2) rfl rfl ?_ (fun q hq => (List.mem_append.mp hq).elim Or.inl (fun hq => Or.inr (List.mem_append_right _ (List.mem_append_right _ (List.mem_append_right _ (List.mem_append_right _ hq)))))) ?_ ?_ ?_
      · refine hp.trans ?_
        refine pcountP (fun f g h1 h2 h3 h4 => ?_)
        simp only [SYS, MW, oV, hC, hcl, h1, h2, h3]
        omega
      · refine pcountP (fun f g h1 h2 h3 h4 => ?_)
        simp only [SYS, MW, oV, h1, h2, h3]
        omega
      · intro r u hu hap
        have e2 := past_new (d := d) (qa := qa) (PH := PH) (u := u) (q := q) hg hn
        refine ⟨hu, ?_⟩
        refine ⟨gf, gs, fa, fb, fn, fr, w', TM, MA, LA, IT, HE, OR, BO, VV, KP, TR, tra, tba, tm, TB, hv', tv, LI, BE, TA, TK, RW, (va_up PA g (some (u 0))), IA, rs, ria, (fun j => if j = g then u else qa j), xa, (pk PH g q), IH, ln, lf, dk, dn, wi, (gk g), t, rfl, ?_, ⟨Or.inr hc1, hc2, hI.keep (fun j a1 a2 => hc3 j (by omega) (by omega)), hRR, hRW, hTT, hTP, hGE, hTK, past_a1 hPA, past_a2 hg hPA2, hIA, him⟩⟩
        refine pcountP (fun f g h1 h2 h3 h4 => ?_)
        have e2_ := h4 _ _ e2
        simp only [SYS, MW, oV, hC, hcl, h1, h2, h3] at e2_ ⊢
        omega
      · intro r u hu
        refine ⟨hu, ?_⟩
        refine pcountP (fun f g h1 h2 h3 h4 => ?_)
        simp only [SYS, MW, oV, h1, h2, h3]
        omega
  · obtain ⟨ans, hv', qv', gc', PA', w', h1, h2, h3⟩ := act_send_1 hT hP hk (PH i) p1 p2 p3
    have e1 := past_out (d := d) (qa := qa) (PH := PH) hi hp0
    rcases h3 with ⟨y1, y2, rfl, y4, y5⟩ | ⟨rfl, hr, hc1, hc2, hc3⟩
    · obtain rfl := y1.symm
      subst y2
      obtain rfl := y4.symm
      obtain rfl := y5.symm
      refine law_of (ans := ans) (wi := ((w0 ++ wi) ++ pool (wo (pC d PA qa PH) i) 24)) (wr := ([((sa 1), .inl (d 3, 8, .inr (.inr (.inr (.inr RW))))), ((sa 2), .inl (d 1, 110, .inl TA)), ((sa 4), .inl (d 4, 2, .inr (.inr (.inr (.inr IA))))), ((sa 5), .inl (d 0, 6, .inl LI)), ((sa 6), .inl (d 0, 6, .inl BE)), ((sa 7), .inl (d 5, 5, .inr (.inr (.inr (.inr TK))))), oV ta tv, aV d ta 1 (HHO tv), aV d ta 2 (HAT tv), aV d ta 3 (HTO tv), aV d ta 4 (HWE tv), aV d ta 5 (HHE tv), aV d ta 6 (HRA tv), (tra, .inr (4, [.ref tba, .int tm])), (tba, .inl (d 0, 16, .inl TB))] ++ (pool (rC d ria RW rs) 8 ++ (pool (wo (pC d PA qa PH) i) 24 ++ (pool (iC d IH xa) 2 ++ wi))) : va_W)) (wr9 := ([((ad 2), .inl (d 0, 110, .inl TM)), ((ad 3), .inl (d 0, 8, .inl MA)), ((ad 4), .inl (d 0, 8, .inl LA)), ((ad 5), .inl (d 0, 320, .inl IT)), ((ad 6), .inl (d 0, 40, .inl HE)), ((ad 7), .inl (d 0, 7, .inl OR)), ((ad 8), .inl (d 0, 6, .inl BO)), ((ad 9), .inl (d 0, 45, .inl VV)), ((ad 10), .inl (d 2, 2, .inl KP)), ((ad 11), .inl (d 0, 16, .inl TR))] : va_W)) (wm' := MW d ad (Int32.ofNat g) (Int32.ofNat t) gf gs fa fb fn fr Ww TM MA LA IT HE OR BO VV KP TR) (mX0_send_1 l D d cs ((w0 ++ wi) ++ pool (wo (pC d PA qa PH) i) 24) ln lf dk dn (him.wide (fun q hq => List.mem_append_left _ hq)) ha (qa i) sa ta (pastH PA i) hv (PH i) (Int32.ofNat t) gf (Int32.ofNat g) tra gs PA p1 p2 p3 (pastH_hhs hPA) _ h1) (mX9_send l (XE D cs w0) XE.ok D d ad (Int32.ofNat g) (Int32.ofNat t) gf gs fa fb fn fr Ww p1 p2 p3 _ h2) rfl rfl ?_ (fun q hq => (List.mem_append.mp hq).elim (fun h => (List.mem_append.mp h).elim Or.inl (fun h => Or.inr (List.mem_append_right _ (List.mem_append_right _ (List.mem_append_right _ (List.mem_append_right _ h)))))) (fun h => Or.inr (List.mem_append_right _ (List.mem_append_right _ (List.mem_append_left _ h))))) ?_ ?_ ?_
      · refine hp.trans ?_
        refine pcountP (fun f g h1 h2 h3 h4 => ?_)
        have e1_ := h4 _ _ e1
        simp only [SYS, MW, oV, hC, h1, h2, h3] at e1_ ⊢
        omega
      · refine pcountP (fun f g h1 h2 h3 h4 => ?_)
        simp only [SYS, MW, oV, h1, h2, h3]
        omega
      · intro r u hu hap
        refine ⟨hu, ?_⟩
        refine ⟨gf, gs, fa, fb, fn, fr, Ww, TM, MA, LA, IT, HE, OR, BO, VV, KP, TR, tra, tba, tm, TB, hv, tv, LI, BE, TA, TK, RW, PA, IA, rs, ria, qa, xa, PH, IH, ln, lf, dk, dn, wi, g, t, rfl, ?_, ⟨hT, hP, hI, hRR, hRW, hTT, hTP, hGE, hTK, hPA, hPA2, hIA, him⟩⟩
        refine pcountP (fun f g h1 h2 h3 h4 => ?_)
        have e1_ := h4 _ _ e1
        simp only [SYS, MW, oV, hC, h1, h2, h3] at e1_ ⊢
        omega
      · intro r u hu
        refine ⟨hu, ?_⟩
        refine pcountP (fun f g h1 h2 h3 h4 => ?_)
        simp only [SYS, MW, oV, h1, h2, h3]
        omega
    · obtain ⟨qa', e2, f1, f2⟩ := past_in (d := d) (PH := PH) (q := qv') hP.1 hi q1 q2 hp0 hr hPA hPA2
      refine law_of (ans := ans) (wi := ((w0 ++ wi) ++ pool (wo (pC d PA qa PH) i) 24)) (wr := ([((sa 1), .inl (d 3, 8, .inr (.inr (.inr (.inr RW))))), ((sa 2), .inl (d 1, 110, .inl TA)), ((sa 4), .inl (d 4, 2, .inr (.inr (.inr (.inr IA))))), ((sa 5), .inl (d 0, 6, .inl LI)), ((sa 6), .inl (d 0, 6, .inl BE)), ((sa 7), .inl (d 5, 5, .inr (.inr (.inr (.inr TK))))), oV ta tv, aV d ta 1 (HHO tv), aV d ta 2 (HAT tv), aV d ta 3 (HTO tv), aV d ta 4 (HWE tv), aV d ta 5 (HHE tv), aV d ta 6 (HRA tv), (tra, .inr (4, [.ref tba, .int tm])), (tba, .inl (d 0, 16, .inl TB))] ++ (pool (rC d ria RW rs) 8 ++ (pool (wo (pC d PA qa PH) i) 24 ++ (pool (iC d IH xa) 2 ++ wi))) : va_W)) (wr9 := ([((ad 2), .inl (d 0, 110, .inl TM)), ((ad 3), .inl (d 0, 8, .inl MA)), ((ad 4), .inl (d 0, 8, .inl LA)), ((ad 5), .inl (d 0, 320, .inl IT)), ((ad 6), .inl (d 0, 40, .inl HE)), ((ad 7), .inl (d 0, 7, .inl OR)), ((ad 8), .inl (d 0, 6, .inl BO)), ((ad 9), .inl (d 0, 45, .inl VV)), ((ad 10), .inl (d 2, 2, .inl KP)), ((ad 11), .inl (d 0, 16, .inl TR))] : va_W)) (wm' := MW d ad (Int32.ofNat (gk g)) (Int32.ofNat t) gf gs fa fb fn fr w' TM MA LA IT HE OR BO VV KP TR) (mX0_send_1 l D d cs ((w0 ++ wi) ++ pool (wo (pC d PA qa PH) i) 24) ln lf dk dn (him.wide (fun q hq => List.mem_append_left _ hq)) ha (qa i) sa ta (pastH PA i) hv (PH i) (Int32.ofNat t) gf (Int32.ofNat g) tra gs PA p1 p2 p3 (pastH_hhs hPA) _ h1) (mX9_send l (XE D cs w0) XE.ok D d ad (Int32.ofNat g) (Int32.ofNat t) gf gs fa fb fn fr Ww p1 p2 p3 _ h2) rfl rfl ?_ (fun q hq => (List.mem_append.mp hq).elim (fun h => (List.mem_append.mp h).elim Or.inl (fun h => Or.inr (List.mem_append_right _ (List.mem_append_right _ (List.mem_append_right _ (List.mem_append_right _ h)))))) (fun h => Or.inr (List.mem_append_right _ (List.mem_append_right _ (List.mem_append_left _ h))))) ?_ ?_ ?_
      · refine hp.trans ?_
        refine pcountP (fun f g h1 h2 h3 h4 => ?_)
        have e1_ := h4 _ _ e1
        simp only [SYS, MW, oV, hC, h1, h2, h3] at e1_ ⊢
        omega
      · refine pcountP (fun f g h1 h2 h3 h4 => ?_)
        simp only [SYS, MW, oV, h1, h2, h3]
        omega
      · intro r u hu hap
        refine ⟨hu, ?_⟩
        refine ⟨gf, gs, fa, fb, fn, fr, w', TM, MA, LA, IT, HE, OR, BO, VV, KP, TR, tra, tba, tm, TB, hv', tv, LI, BE, TA, TK, RW, PA', IA, rs, ria, qa', xa, (pk PH g qv'), IH, ln, lf, dk, dn, wi, (gk g), t, rfl, ?_, ⟨Or.inr hc1, hc2, hI.keep (fun j a1 a2 => hc3 j (by omega) (by omega)), hRR, hRW, hTT, hTP, hGE, hTK, f1, f2, hIA, him⟩⟩
        refine pcountP (fun f g h1 h2 h3 h4 => ?_)
        have e2_ := h4 _ _ e2
        simp only [SYS, MW, oV, hC, h1, h2, h3] at e2_ ⊢
        omega
      · intro r u hu
        refine ⟨hu, ?_⟩
        refine pcountP (fun f g h1 h2 h3 h4 => ?_)
        simp only [SYS, MW, oV, h1, h2, h3]
        omega
theorem PVs.less {ln : Nat → Option Int32} {lf : Nat → Nat → Option Nat} {dk : Nat → Option Nat} {PH : Nat → HV} {w w' : Nat → Int32} {k : Nat} (h : PVs ln lf dk PH w (k + 1)) (e : ∀ i, 43 ≤ i → w' i = w i) : PVs ln lf dk PH w' k :=
  PVs.keep ⟨by have := h.1; omega, fun j hj => h.2 j (by omega)⟩ (fun i hi => e i (by omega))
theorem L_undo {l : Launch} {D : va_G} {d : Nat → ClassId} {cs : Nat → Nat} {w0 : va_W} {sa ha ta ad : Nat → Nat} {ws wm : va_W} (h : RM d sa ha ta ad w0 ws wm) : LawI l yX0_undo (ws_ yX0_undo cX0_undo 1 (some .int)) yX9_undo (ws_ yX9_undo cX9_undo 1 (some .int)) [] D d cs w0 (sa 0) (ad 0) ws wm (RM d sa ha ta ad w0) := by
  obtain ⟨gf, gs, fa, fb, fn, fr, Ww, TM, MA, LA, IT, HE, OR, BO, VV, KP, TR, tra, tba, tm, TB, hv, tv, LI, BE, TA, TK, RW, PA, IA, rs, ria, qa, xa, PH, IH, ln, lf, dk, dn, wi, g, t, rfl, hp, hF⟩ := h
  obtain ⟨hT, hP, hI, hRR, hRW, hTT, hTP, hGE, hTK, hPA, hPA2, hIA, him⟩ := hF
  rcases Nat.eq_zero_or_pos g with rfl | hg
  · have h1 : fX0_undo_0 (Int32.ofNat 0) = some (-1000002) := act_undo_z (w := Ww).1
    have h2 : fX9_undo Ww (Int32.ofNat 0) = some (-1000002, Int32.ofNat 0, Ww) := act_undo_z.2
    refine law_of (ans := (-1000002)) (wi := (w0 ++ wi)) (wr := ([((sa 1), .inl (d 3, 8, .inr (.inr (.inr (.inr RW))))), ((sa 2), .inl (d 1, 110, .inl TA)), ((sa 4), .inl (d 4, 2, .inr (.inr (.inr (.inr IA))))), ((sa 5), .inl (d 0, 6, .inl LI)), ((sa 6), .inl (d 0, 6, .inl BE)), ((sa 7), .inl (d 5, 5, .inr (.inr (.inr (.inr TK))))), oV ta tv, aV d ta 1 (HHO tv), aV d ta 2 (HAT tv), aV d ta 3 (HTO tv), aV d ta 4 (HWE tv), aV d ta 5 (HHE tv), aV d ta 6 (HRA tv), (tra, .inr (4, [.ref tba, .int tm])), (tba, .inl (d 0, 16, .inl TB))] ++ (pool (rC d ria RW rs) 8 ++ (pool (pC d PA qa PH) 24 ++ (pool (iC d IH xa) 2 ++ wi))) : va_W)) (wr9 := ([((ad 2), .inl (d 0, 110, .inl TM)), ((ad 3), .inl (d 0, 8, .inl MA)), ((ad 4), .inl (d 0, 8, .inl LA)), ((ad 5), .inl (d 0, 320, .inl IT)), ((ad 6), .inl (d 0, 40, .inl HE)), ((ad 7), .inl (d 0, 7, .inl OR)), ((ad 8), .inl (d 0, 6, .inl BO)), ((ad 9), .inl (d 0, 45, .inl VV)), ((ad 10), .inl (d 2, 2, .inl KP)), ((ad 11), .inl (d 0, 16, .inl TR))] : va_W)) (wm' := MW d ad (Int32.ofNat 0) (Int32.ofNat t) gf gs fa fb fn fr Ww TM MA LA IT HE OR BO VV KP TR) (mX0_undo_0 l D d cs (w0 ++ wi) ln lf dk dn him ha sa ta hv (Int32.ofNat t) gf (Int32.ofNat 0) tra gs PA _ h1) (mX9_undo l (XE D cs w0) XE.ok D d ad (Int32.ofNat 0) (Int32.ofNat t) gf gs fa fb fn fr Ww _ h2) rfl rfl ?_ (fun q hq => (List.mem_append.mp hq).elim Or.inl (fun hq => Or.inr (List.mem_append_right _ (List.mem_append_right _ (List.mem_append_right _ (List.mem_append_right _ hq)))))) ?_ ?_ ?_
    · refine hp.trans ?_
      refine pcountP (fun f g h1 h2 h3 h4 => ?_)
      simp only [SYS, MW, oV, h1, h2, h3]
      omega
    · refine pcountP (fun f g h1 h2 h3 h4 => ?_)
      simp only [SYS, MW, oV, h1, h2, h3]
      omega
    · intro r u hu hap
      refine ⟨hu, ?_⟩
      refine ⟨gf, gs, fa, fb, fn, fr, Ww, TM, MA, LA, IT, HE, OR, BO, VV, KP, TR, tra, tba, tm, TB, hv, tv, LI, BE, TA, TK, RW, PA, IA, rs, ria, qa, xa, PH, IH, ln, lf, dk, dn, wi, 0, t, rfl, ?_, ⟨hT, hP, hI, hRR, hRW, hTT, hTP, hGE, hTK, hPA, hPA2, hIA, him⟩⟩
      refine pcountP (fun f g h1 h2 h3 h4 => ?_)
      simp only [SYS, MW, oV, h1, h2, h3]
      omega
    · intro r u hu
      refine ⟨hu, ?_⟩
      refine pcountP (fun f g h1 h2 h3 h4 => ?_)
      simp only [SYS, MW, oV, h1, h2, h3]
      omega
  · obtain ⟨k, rfl⟩ : ∃ k, g = k + 1 := ⟨g - 1, by omega⟩
    obtain ⟨a, hak⟩ := hPA2 k (by omega)
    have hk := hP.1
    have hk24 : k < 24 := by omega
    have ha2 := hPA k a hk24 hak
    subst ha2
    obtain ⟨v', w', h1, h2, hc1, hc2⟩ := act_undo_1 (hv := hv) (PA := PA) (qa := qa k) hP hak
    have e1 := past_out (d := d) (qa := qa) (PH := PH) hk24 hak
    refine law_of (ans := (Int32.ofNat k)) (wi := (w0 ++ wi)) (wr := ([((sa 1), .inl (d 3, 8, .inr (.inr (.inr (.inr RW))))), ((sa 2), .inl (d 1, 110, .inl TA)), ((sa 4), .inl (d 4, 2, .inr (.inr (.inr (.inr IA))))), ((sa 5), .inl (d 0, 6, .inl LI)), ((sa 6), .inl (d 0, 6, .inl BE)), ((sa 7), .inl (d 5, 5, .inr (.inr (.inr (.inr TK))))), oV ta tv, aV d ta 1 (HHO tv), aV d ta 2 (HAT tv), aV d ta 3 (HTO tv), aV d ta 4 (HWE tv), aV d ta 5 (HHE tv), aV d ta 6 (HRA tv), (tra, .inr (4, [.ref tba, .int tm])), (tba, .inl (d 0, 16, .inl TB))] ++ (pool (rC d ria RW rs) 8 ++ (pool (wo (pC d PA qa PH) k) 24 ++ (pool (iC d IH xa) 2 ++ wi))) : va_W)) (wr9 := ([((ad 2), .inl (d 0, 110, .inl TM)), ((ad 3), .inl (d 0, 8, .inl MA)), ((ad 4), .inl (d 0, 8, .inl LA)), ((ad 5), .inl (d 0, 320, .inl IT)), ((ad 6), .inl (d 0, 40, .inl HE)), ((ad 7), .inl (d 0, 7, .inl OR)), ((ad 8), .inl (d 0, 6, .inl BO)), ((ad 9), .inl (d 0, 45, .inl VV)), ((ad 10), .inl (d 2, 2, .inl KP)), ((ad 11), .inl (d 0, 16, .inl TR))] : va_W)) (wm' := MW d ad (Int32.ofNat k) (Int32.ofNat t) gf gs fa fb fn fr w' TM MA LA IT HE OR BO VV KP TR) (mX0_undo_1 l D d cs (w0 ++ wi) ln lf dk dn him ha (qa k) sa ta hv (PH k) (Int32.ofNat t) gf (Int32.ofNat (k + 1)) tra gs PA _ h1) (mX9_undo l (XE D cs w0) XE.ok D d ad (Int32.ofNat (k + 1)) (Int32.ofNat t) gf gs fa fb fn fr Ww _ h2) rfl rfl ?_ (fun q hq => (List.mem_append.mp hq).elim Or.inl (fun hq => Or.inr (List.mem_append_right _ (List.mem_append_right _ (List.mem_append_right _ (List.mem_append_right _ hq)))))) ?_ ?_ ?_
    · refine hp.trans ?_
      refine pcountP (fun f g h1 h2 h3 h4 => ?_)
      have e1_ := h4 _ _ e1
      simp only [SYS, MW, oV, hC, h1, h2, h3] at e1_ ⊢
      omega
    · refine pcountP (fun f g h1 h2 h3 h4 => ?_)
      simp only [SYS, MW, oV, h1, h2, h3]
      omega
    · intro r u hu hap
      refine ⟨hu, ?_⟩
      refine ⟨gf, gs, fa, fb, fn, fr, w', TM, MA, LA, IT, HE, OR, BO, VV, KP, TR, tra, tba, tm, TB, v', tv, LI, BE, TA, TK, RW, PA, IA, rs, ria, qa, xa, PH, IH, ln, lf, dk, dn, wi, k, t, rfl, ?_, ⟨Or.inr hc1, PVs.less hP hc2, hI.keep (fun j a1 a2 => hc2 j (by omega)), hRR, hRW, hTT, hTP, hGE, hTK, hPA, fun j hj => hPA2 j (by omega), hIA, him⟩⟩
      refine pcountP (fun f g h1 h2 h3 h4 => ?_)
      have e1_ := h4 _ _ e1
      simp only [SYS, MW, oV, hC, h1, h2, h3] at e1_ ⊢
      omega
    · intro r u hu
      refine ⟨hu, ?_⟩
      refine pcountP (fun f g h1 h2 h3 h4 => ?_)
      simp only [SYS, MW, oV, h1, h2, h3]
      omega
theorem L_restore {l : Launch} {D : va_G} {d : Nat → ClassId} {cs : Nat → Nat} {w0 : va_W} {sa ha ta ad : Nat → Nat} {ws wm : va_W} (h : RM d sa ha ta ad w0 ws wm) (p1 : Int32) : LawI l yX0_restore (ws_ yX0_restore cX0_restore 2 (some .int)) yX9_restore (ws_ yX9_restore cX9_restore 2 (some .int)) [.int p1] D d cs w0 (sa 0) (ad 0) ws wm (RM d sa ha ta ad w0) := by
  obtain ⟨gf, gs, fa, fb, fn, fr, Ww, TM, MA, LA, IT, HE, OR, BO, VV, KP, TR, tra, tba, tm, TB, hv, tv, LI, BE, TA, TK, RW, PA, IA, rs, ria, qa, xa, PH, IH, ln, lf, dk, dn, wi, g, t, rfl, hp, hF⟩ := h
  obtain ⟨hT, hP, hI, hRR, hRW, hTT, hTP, hGE, hTK, hPA, hPA2, hIA, him⟩ := hF
  rcases img_case hIA p1 with h0 | ⟨i, q, hi, rfl, hq, hA⟩
  · obtain ⟨ans, h1, h2⟩ := act_restore_0 hI (Int32.ofNat g) p1 h0
    refine law_of (ans := ans) (wi := (w0 ++ wi)) (wr := ([((sa 1), .inl (d 3, 8, .inr (.inr (.inr (.inr RW))))), ((sa 2), .inl (d 1, 110, .inl TA)), ((sa 3), .inl (d 4, 24, .inr (.inr (.inr (.inr PA))))), ((sa 5), .inl (d 0, 6, .inl LI)), ((sa 6), .inl (d 0, 6, .inl BE)), ((sa 7), .inl (d 5, 5, .inr (.inr (.inr (.inr TK))))), oV ta tv, aV d ta 1 (HHO tv), aV d ta 2 (HAT tv), aV d ta 3 (HTO tv), aV d ta 4 (HWE tv), aV d ta 5 (HHE tv), aV d ta 6 (HRA tv), (tra, .inr (4, [.ref tba, .int tm])), (tba, .inl (d 0, 16, .inl TB))] ++ (pool (rC d ria RW rs) 8 ++ (pool (pC d PA qa PH) 24 ++ (pool (iC d IH xa) 2 ++ wi))) : va_W)) (wr9 := ([((ad 2), .inl (d 0, 110, .inl TM)), ((ad 3), .inl (d 0, 8, .inl MA)), ((ad 4), .inl (d 0, 8, .inl LA)), ((ad 5), .inl (d 0, 320, .inl IT)), ((ad 6), .inl (d 0, 40, .inl HE)), ((ad 7), .inl (d 0, 7, .inl OR)), ((ad 8), .inl (d 0, 6, .inl BO)), ((ad 9), .inl (d 0, 45, .inl VV)), ((ad 11), .inl (d 0, 16, .inl TR))] : va_W)) (wm' := MW d ad (Int32.ofNat g) (Int32.ofNat t) gf gs fa fb fn fr Ww TM MA LA IT HE OR BO VV KP TR) (mX0_restore_0 l D d cs (w0 ++ wi) ln lf dk dn him ha sa ta hv (Int32.ofNat t) gf (Int32.ofNat g) tra gs IA p1 _ h1) (mX9_restore l (XE D cs w0) XE.ok D d ad (Int32.ofNat g) (Int32.ofNat t) gf gs fa fb fn fr Ww KP p1 _ h2) rfl rfl ?_ (fun q hq => (List.mem_append.mp hq).elim Or.inl (fun hq => Or.inr (List.mem_append_right _ (List.mem_append_right _ (List.mem_append_right _ (List.mem_append_right _ hq)))))) ?_ ?_ ?_
    · refine hp.trans ?_
      refine pcountP (fun f g h1 h2 h3 h4 => ?_)
      simp only [SYS, MW, oV, h1, h2, h3]
      omega
    · refine pcountP (fun f g h1 h2 h3 h4 => ?_)
      simp only [SYS, MW, oV, h1, h2, h3]
      omega
    · intro r u hu hap
      refine ⟨hu, ?_⟩
      refine ⟨gf, gs, fa, fb, fn, fr, Ww, TM, MA, LA, IT, HE, OR, BO, VV, KP, TR, tra, tba, tm, TB, hv, tv, LI, BE, TA, TK, RW, PA, IA, rs, ria, qa, xa, PH, IH, ln, lf, dk, dn, wi, g, t, rfl, ?_, ⟨hT, hP, hI, hRR, hRW, hTT, hTP, hGE, hTK, hPA, hPA2, hIA, him⟩⟩
      refine pcountP (fun f g h1 h2 h3 h4 => ?_)
      simp only [SYS, MW, oV, h1, h2, h3]
      omega
    · intro r u hu
      refine ⟨hu, ?_⟩
      refine pcountP (fun f g h1 h2 h3 h4 => ?_)
      simp only [SYS, MW, oV, h1, h2, h3]
      omega
  · obtain ⟨v', w', h1, h2, hc1, hc2⟩ := act_restore_1 (hv := hv) (qa := xa i) hI (Int32.ofNat g) hi hq hA
    have h1 : fX0_restore_1 (xa i) hv q (Int32.ofNat g) IA (Int32.ofNat i) = some (1, v', Int32.ofNat 0) := h1
    have h2 : fX9_restore Ww KP (Int32.ofNat g) (Int32.ofNat i) = some (1, Int32.ofNat 0, w') := h2
    have e1 := img_out (d := d) (xa := xa) hi hq
    refine law_of (ans := 1) (wi := (w0 ++ wi)) (wr := ([((sa 1), .inl (d 3, 8, .inr (.inr (.inr (.inr RW))))), ((sa 2), .inl (d 1, 110, .inl TA)), ((sa 3), .inl (d 4, 24, .inr (.inr (.inr (.inr PA))))), ((sa 5), .inl (d 0, 6, .inl LI)), ((sa 6), .inl (d 0, 6, .inl BE)), ((sa 7), .inl (d 5, 5, .inr (.inr (.inr (.inr TK))))), oV ta tv, aV d ta 1 (HHO tv), aV d ta 2 (HAT tv), aV d ta 3 (HTO tv), aV d ta 4 (HWE tv), aV d ta 5 (HHE tv), aV d ta 6 (HRA tv), (tra, .inr (4, [.ref tba, .int tm])), (tba, .inl (d 0, 16, .inl TB))] ++ (pool (rC d ria RW rs) 8 ++ (pool (pC d PA qa PH) 24 ++ (pool (wo (iC d IH xa) i) 2 ++ wi))) : va_W)) (wr9 := ([((ad 2), .inl (d 0, 110, .inl TM)), ((ad 3), .inl (d 0, 8, .inl MA)), ((ad 4), .inl (d 0, 8, .inl LA)), ((ad 5), .inl (d 0, 320, .inl IT)), ((ad 6), .inl (d 0, 40, .inl HE)), ((ad 7), .inl (d 0, 7, .inl OR)), ((ad 8), .inl (d 0, 6, .inl BO)), ((ad 9), .inl (d 0, 45, .inl VV)), ((ad 11), .inl (d 0, 16, .inl TR))] : va_W)) (wm' := MW d ad (Int32.ofNat 0) (Int32.ofNat t) gf gs fa fb fn fr w' TM MA LA IT HE OR BO VV KP TR) (mX0_restore_1 l D d cs (w0 ++ wi) ln lf dk dn him ha (xa i) sa ta hv q (Int32.ofNat t) gf (Int32.ofNat g) tra gs IA (Int32.ofNat i) _ h1) (mX9_restore l (XE D cs w0) XE.ok D d ad (Int32.ofNat g) (Int32.ofNat t) gf gs fa fb fn fr Ww KP (Int32.ofNat i) _ h2) rfl rfl ?_ (fun q hq => (List.mem_append.mp hq).elim Or.inl (fun hq => Or.inr (List.mem_append_right _ (List.mem_append_right _ (List.mem_append_right _ (List.mem_append_right _ hq)))))) ?_ ?_ ?_
    · refine hp.trans ?_
      refine pcountP (fun f g h1 h2 h3 h4 => ?_)
      have e1_ := h4 _ _ e1
      simp only [SYS, MW, oV, hC, h1, h2, h3] at e1_ ⊢
      omega
    · refine pcountP (fun f g h1 h2 h3 h4 => ?_)
      simp only [SYS, MW, oV, h1, h2, h3]
      omega
    · intro r u hu hap
      refine ⟨hu, ?_⟩
      refine ⟨gf, gs, fa, fb, fn, fr, w', TM, MA, LA, IT, HE, OR, BO, VV, KP, TR, tra, tba, tm, TB, v', tv, LI, BE, TA, TK, RW, PA, IA, rs, ria, qa, xa, PH, IH, ln, lf, dk, dn, wi, 0, t, rfl, ?_, ⟨Or.inr hc1, ⟨Nat.zero_le _, fun j hj => absurd hj (Nat.not_lt_zero _)⟩, hI.keep (fun j a1 a2 => hc2 j (by omega)), hRR, hRW, hTT, hTP, hGE, hTK, hPA, fun j hj => absurd hj (Nat.not_lt_zero _), hIA, him⟩⟩
      refine pcountP (fun f g h1 h2 h3 h4 => ?_)
      have e1_ := h4 _ _ e1
      simp only [SYS, MW, oV, hC, h1, h2, h3] at e1_ ⊢
      omega
    · intro r u hu
      refine ⟨hu, ?_⟩
      refine pcountP (fun f g h1 h2 h3 h4 => ?_)
      simp only [SYS, MW, oV, h1, h2, h3]
      omega
theorem L_image {l : Launch} {D : va_G} {d : Nat → ClassId} {cs : Nat → Nat} {w0 : va_W} {sa ha ta ad : Nat → Nat} {ws wm : va_W} (h : RM d sa ha ta ad w0 ws wm) (p1 : Int32) : LawI l yX0_image (ws_ yX0_image cX0_image 2 (some .int)) yX9_image (ws_ yX9_image cX9_image 2 (some .int)) [.int p1] D d cs w0 (sa 0) (ad 0) ws wm (RM d sa ha ta ad w0) := by
  obtain ⟨gf, gs, fa, fb, fn, fr, Ww, TM, MA, LA, IT, HE, OR, BO, VV, KP, TR, tra, tba, tm, TB, hv, tv, LI, BE, TA, TK, RW, PA, IA, rs, ria, qa, xa, PH, IH, ln, lf, dk, dn, wi, g, t, rfl, hp, hF⟩ := h
  obtain ⟨hT, hP, hI, hRR, hRW, hTT, hTP, hGE, hTK, hPA, hPA2, hIA, him⟩ := hF
  rcases img_case hIA p1 with h0 | ⟨i, q0, hi, rfl, hq, hA⟩
  · obtain ⟨ans, made, q, w', KP', h1, h2, h3⟩ := act_image_0 hT hI p1 (fun hh => (h0 hh).2)
    rcases h3 with ⟨rfl, y2, y3⟩ | ⟨rfl, ⟨i, rfl, hi, hc1⟩, hc2⟩
    · obtain rfl := y2.symm
      obtain rfl := y3.symm
      refine law_of (ans := ans) (wi := (w0 ++ wi)) (wr := ([((sa 1), .inl (d 3, 8, .inr (.inr (.inr (.inr RW))))), ((sa 2), .inl (d 1, 110, .inl TA)), ((sa 3), .inl (d 4, 24, .inr (.inr (.inr (.inr PA))))), ((sa 5), .inl (d 0, 6, .inl LI)), ((sa 6), .inl (d 0, 6, .inl BE)), ((sa 7), .inl (d 5, 5, .inr (.inr (.inr (.inr TK))))), oV ta tv, aV d ta 1 (HHO tv), aV d ta 2 (HAT tv), aV d ta 3 (HTO tv), aV d ta 4 (HWE tv), aV d ta 5 (HHE tv), aV d ta 6 (HRA tv), (tra, .inr (4, [.ref tba, .int tm])), (tba, .inl (d 0, 16, .inl TB))] ++ (pool (rC d ria RW rs) 8 ++ (pool (pC d PA qa PH) 24 ++ (pool (iC d IH xa) 2 ++ wi))) : va_W)) (wr9 := ([((ad 2), .inl (d 0, 110, .inl TM)), ((ad 3), .inl (d 0, 8, .inl MA)), ((ad 4), .inl (d 0, 8, .inl LA)), ((ad 5), .inl (d 0, 320, .inl IT)), ((ad 6), .inl (d 0, 40, .inl HE)), ((ad 7), .inl (d 0, 7, .inl OR)), ((ad 8), .inl (d 0, 6, .inl BO)), ((ad 9), .inl (d 0, 45, .inl VV)), ((ad 11), .inl (d 0, 16, .inl TR))] : va_W)) (wm' := MW d ad (Int32.ofNat g) (Int32.ofNat t) gf gs fa fb fn fr Ww TM MA LA IT HE OR BO VV KP TR) (mX0_image_0 l D d cs (w0 ++ wi) ln lf dk dn him ha sa ta hv (Int32.ofNat t) gf (Int32.ofNat g) tra gs IA p1 _ h1) (mX9_image l (XE D cs w0) XE.ok D d ad (Int32.ofNat g) (Int32.ofNat t) gf gs fa fb fn fr Ww KP p1 _ h2) rfl rfl ?_ (fun q hq => (List.mem_append.mp hq).elim Or.inl (fun hq => Or.inr (List.mem_append_right _ (List.mem_append_right _ (List.mem_append_right _ (List.mem_append_right _ hq)))))) ?_ ?_ ?_
      · refine hp.trans ?_
        refine pcountP (fun f g h1 h2 h3 h4 => ?_)
        simp only [SYS, MW, oV, h1, h2, h3]
        omega
      · refine pcountP (fun f g h1 h2 h3 h4 => ?_)
        simp only [SYS, MW, oV, h1, h2, h3]
        omega
      · intro r u hu hap
        refine ⟨hu, ?_⟩
        refine ⟨gf, gs, fa, fb, fn, fr, Ww, TM, MA, LA, IT, HE, OR, BO, VV, KP, TR, tra, tba, tm, TB, hv, tv, LI, BE, TA, TK, RW, PA, IA, rs, ria, qa, xa, PH, IH, ln, lf, dk, dn, wi, g, t, rfl, ?_, ⟨hT, hP, hI, hRR, hRW, hTT, hTP, hGE, hTK, hPA, hPA2, hIA, him⟩⟩
        refine pcountP (fun f g h1 h2 h3 h4 => ?_)
        simp only [SYS, MW, oV, h1, h2, h3]
        omega
      · intro r u hu
        refine ⟨hu, ?_⟩
        refine pcountP (fun f g h1 h2 h3 h4 => ?_)
        simp only [SYS, MW, oV, h1, h2, h3]
        omega
    · have hcl : (Int32.ofNat i).toNatClampNeg = i := toClamp24 (by omega)
      have hn : IH i = none := by
        have := (h0 (by rw [Int32.toInt_ofNat_of_lt (by omega : i < 2 ^ 31)]; omega)).1
        rwa [hcl] at this
      have e2 : ∀ u : Nat → Nat, _ := fun u => img_new (d := d) (xa := xa) (u := u) (q := q) hi hn
      refine law_of (ans := ans) (wi := (w0 ++ wi)) (wr := ([((sa 1), .inl (d 3, 8, .inr (.inr (.inr (.inr RW))))), ((sa 2), .inl (d 1, 110, .inl TA)), ((sa 3), .inl (d 4, 24, .inr (.inr (.inr (.inr PA))))), ((sa 5), .inl (d 0, 6, .inl LI)), ((sa 6), .inl (d 0, 6, .inl BE)), ((sa 7), .inl (d 5, 5, .inr (.inr (.inr (.inr TK))))), oV ta tv, aV d ta 1 (HHO tv), aV d ta 2 (HAT tv), aV d ta 3 (HTO tv), aV d ta 4 (HWE tv), aV d ta 5 (HHE tv), aV d ta 6 (HRA tv), (tra, .inr (4, [.ref tba, .int tm])), (tba, .inl (d 0, 16, .inl TB))] ++ (pool (rC d ria RW rs) 8 ++ (pool (pC d PA qa PH) 24 ++ (pool (iC d IH xa) 2 ++ wi))) : va_W)) (wr9 := ([((ad 2), .inl (d 0, 110, .inl TM)), ((ad 3), .inl (d 0, 8, .inl MA)), ((ad 4), .inl (d 0, 8, .inl LA)), ((ad 5), .inl (d 0, 320, .inl IT)), ((ad 6), .inl (d 0, 40, .inl HE)), ((ad 7), .inl (d 0, 7, .inl OR)), ((ad 8), .inl (d 0, 6, .inl BO)), ((ad 9), .inl (d 0, 45, .inl VV)), ((ad 11), .inl (d 0, 16, .inl TR))] : va_W)) (wm' := MW d ad (Int32.ofNat g) (Int32.ofNat t) gf gs fa fb fn fr w' TM MA LA IT HE OR BO VV KP' TR) (mX0_image_0 l D d cs (w0 ++ wi) ln lf dk dn him ha sa ta hv (Int32.ofNat t) gf (Int32.ofNat g) tra gs IA (Int32.ofNat i) _ h1) (mX9_image l (XE D cs w0) XE.ok D d ad (Int32.ofNat g) (Int32.ofNat t) gf gs fa fb fn fr Ww KP (Int32.ofNat i) _ h2) rfl rfl ?_ (fun q hq => (List.mem_append.mp hq).elim Or.inl (fun hq => Or.inr (List.mem_append_right _ (List.mem_append_right _ (List.mem_append_right _ (List.mem_append_right _ hq)))))) ?_ ?_ ?_
      · refine hp.trans ?_
        refine pcountP (fun f g h1 h2 h3 h4 => ?_)
        simp only [SYS, MW, oV, hC, hcl, h1, h2, h3]
        omega
      · refine pcountP (fun f g h1 h2 h3 h4 => ?_)
        simp only [SYS, MW, oV, h1, h2, h3]
        omega
      · intro r u hu hap
        have e3 := e2 u
        refine ⟨hu, ?_⟩
        refine ⟨gf, gs, fa, fb, fn, fr, w', TM, MA, LA, IT, HE, OR, BO, VV, KP', TR, tra, tba, tm, TB, hv, tv, LI, BE, TA, TK, RW, PA, (va_up IA i (some (u 0))), rs, ria, qa, (fun j => if j = i then u else xa j), PH, (ni IH i (some q)), ln, lf, dk, dn, wi, g, t, rfl, ?_, ⟨hT.keep (fun j hj => hc2 j (by omega)), hP.keep (fun j hj => hc2 j (by omega)), hc1, hRR, hRW, hTT, hTP, hGE, hTK, hPA, hPA2, im_new hIA u q, him⟩⟩
        refine pcountP (fun f g h1 h2 h3 h4 => ?_)
        have e3_ := h4 _ _ e3
        simp only [SYS, MW, oV, hC, hcl, h1, h2, h3] at e3_ ⊢
        omega
      · intro r u hu
        refine ⟨hu, ?_⟩
        refine pcountP (fun f g h1 h2 h3 h4 => ?_)
        simp only [SYS, MW, oV, h1, h2, h3]
        omega
  · obtain ⟨ans, q, w', KP', h1, h2, hc1, hc2⟩ := act_image_1 (hv := hv) (qa := xa i) hT hI hi hq hA
    have e1 := img_out (d := d) (xa := xa) hi hq
    have e2 := img_in (d := d) (IH := IH) (xa := xa) (q := q) hi
    refine law_of (ans := ans) (wi := (w0 ++ wi)) (wr := ([((sa 1), .inl (d 3, 8, .inr (.inr (.inr (.inr RW))))), ((sa 2), .inl (d 1, 110, .inl TA)), ((sa 3), .inl (d 4, 24, .inr (.inr (.inr (.inr PA))))), ((sa 5), .inl (d 0, 6, .inl LI)), ((sa 6), .inl (d 0, 6, .inl BE)), ((sa 7), .inl (d 5, 5, .inr (.inr (.inr (.inr TK))))), oV ta tv, aV d ta 1 (HHO tv), aV d ta 2 (HAT tv), aV d ta 3 (HTO tv), aV d ta 4 (HWE tv), aV d ta 5 (HHE tv), aV d ta 6 (HRA tv), (tra, .inr (4, [.ref tba, .int tm])), (tba, .inl (d 0, 16, .inl TB))] ++ (pool (rC d ria RW rs) 8 ++ (pool (pC d PA qa PH) 24 ++ (pool (wo (iC d IH xa) i) 2 ++ wi))) : va_W)) (wr9 := ([((ad 2), .inl (d 0, 110, .inl TM)), ((ad 3), .inl (d 0, 8, .inl MA)), ((ad 4), .inl (d 0, 8, .inl LA)), ((ad 5), .inl (d 0, 320, .inl IT)), ((ad 6), .inl (d 0, 40, .inl HE)), ((ad 7), .inl (d 0, 7, .inl OR)), ((ad 8), .inl (d 0, 6, .inl BO)), ((ad 9), .inl (d 0, 45, .inl VV)), ((ad 11), .inl (d 0, 16, .inl TR))] : va_W)) (wm' := MW d ad (Int32.ofNat g) (Int32.ofNat t) gf gs fa fb fn fr w' TM MA LA IT HE OR BO VV KP' TR) (mX0_image_1 l D d cs (w0 ++ wi) ln lf dk dn him ha (xa i) sa ta hv q0 (Int32.ofNat t) gf (Int32.ofNat g) tra gs IA (Int32.ofNat i) _ h1) (mX9_image l (XE D cs w0) XE.ok D d ad (Int32.ofNat g) (Int32.ofNat t) gf gs fa fb fn fr Ww KP (Int32.ofNat i) _ h2) rfl rfl ?_ (fun q hq => (List.mem_append.mp hq).elim Or.inl (fun hq => Or.inr (List.mem_append_right _ (List.mem_append_right _ (List.mem_append_right _ (List.mem_append_right _ hq)))))) ?_ ?_ ?_
    · refine hp.trans ?_
      refine pcountP (fun f g h1 h2 h3 h4 => ?_)
      have e1_ := h4 _ _ e1
      simp only [SYS, MW, oV, hC, h1, h2, h3] at e1_ ⊢
      omega
    · refine pcountP (fun f g h1 h2 h3 h4 => ?_)
      simp only [SYS, MW, oV, h1, h2, h3]
      omega
    · intro r u hu hap
      refine ⟨hu, ?_⟩
      refine ⟨gf, gs, fa, fb, fn, fr, w', TM, MA, LA, IT, HE, OR, BO, VV, KP', TR, tra, tba, tm, TB, hv, tv, LI, BE, TA, TK, RW, PA, IA, rs, ria, qa, xa, PH, (ni IH i (some q)), ln, lf, dk, dn, wi, g, t, rfl, ?_, ⟨hT.keep (fun j hj => hc2 j (by omega)), hP.keep (fun j hj => hc2 j (by omega)), hc1, hRR, hRW, hTT, hTP, hGE, hTK, hPA, hPA2, im_some hIA hA q, him⟩⟩
      refine pcountP (fun f g h1 h2 h3 h4 => ?_)
      have e2_ := h4 _ _ e2
      simp only [SYS, MW, oV, hC, h1, h2, h3] at e2_ ⊢
      omega
    · intro r u hu
      refine ⟨hu, ?_⟩
      refine pcountP (fun f g h1 h2 h3 h4 => ?_)
      simp only [SYS, MW, oV, h1, h2, h3]
      omega
