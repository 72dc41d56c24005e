set_option maxRecDepth 100000
theorem FA.tried {d : Nat → ClassId} {tm : Int32} {TB TA : Nat → Int32} {TK RW PA IA : Nat → Option Nat} {hv : HV} {rs : Nat → Option Rw} {qa xa : Nat → Nat → Nat} {PH : Nat → HV} {IH : Nat → Option HV} {ln : Nat → Option Int32} {lf : Nat → Nat → Option Nat} {dk : Nat → Option Nat} {dn : Nat → Int32} {wi : va_W} {g t : Nat} {fr : Int32} {Ww TM MA LA IT KP TR w' : Nat → Int32} (h : FA d tm TB TA TK RW PA IA hv rs qa xa PH IH ln lf dk dn wi g t fr Ww TM MA LA IT KP TR) (e : FR Ww w' 43) : FA d tm TB TA TK RW PA IA hv rs qa xa PH IH ln lf dk dn wi g t fr w' TM MA LA IT KP TR := by
  obtain ⟨h1, h2, h3, h4⟩ := h
  exact ⟨h1.keep (fun i hi => e i (by omega)), h2.keep (fun i hi => e i (by omega)), h3.keep (fun i a1 a2 => e i (by omega)), h4⟩
theorem L_ahead {l : Launch} {D : va_G} {d : Nat → ClassId} {cs : Nat → Nat} {w0 : va_W} {sa ha ta ad : Nat → Nat} {ws wm : va_W} (h : RM d sa ha ta ad w0 ws wm) (p1 p2 p3 : Int32) : LawI l yX0_ahead (ws_ yX0_ahead cX0_ahead 4 (some .int)) yX9_ahead (ws_ yX9_ahead cX9_ahead 4 (some .int)) [.int p1, .int p2, .int p3] D d cs w0 (sa 0) (ad 0) ws wm (RM d sa ha ta ad w0) := by
  obtain ⟨gf, gs, fa, fb, fn, fr, Ww, TM, MA, LA, IT, HE, OR, BO, VV, KP, TR, tra, tba, tm, TB, hv, tv, LI, BE, TA, TK, RW, PA, IA, rs, ria, qa, xa, PH, IH, ln, lf, dk, dn, wi, g, t, rfl, hp, hF⟩ := h
  have him := hF.2.2.2.2.2.2.2.2.2.2.2.2
  obtain ⟨ans, tv', w', h1, h2, h3⟩ := act_ahead hF.1 tv p1 p2 p3
  refine law_of (ans := ans) (wi := (w0 ++ wi)) (wr := (([((sa 1), .inl (d 3, 8, .inr (.inr (.inr (.inr RW))))), ((sa 2), .inl (d 1, 110, .inl TA)), ((sa 3), .inl (d 4, 24, .inr (.inr (.inr (.inr PA))))), ((sa 4), .inl (d 4, 2, .inr (.inr (.inr (.inr IA))))), ((sa 5), .inl (d 0, 6, .inl LI)), ((sa 6), .inl (d 0, 6, .inl BE)), ((sa 7), .inl (d 5, 5, .inr (.inr (.inr (.inr TK))))), (tra, .inr (4, [.ref tba, .int tm])), (tba, .inl (d 0, 16, .inl TB))] ++ (pool (rC d ria RW rs) 8 ++ (pool (pC d PA qa PH) 24 ++ (pool (iC d IH xa) 2 ++ wi)))) : va_W)) (wr9 := ([((ad 2), .inl (d 0, 110, .inl TM)), ((ad 3), .inl (d 0, 8, .inl MA)), ((ad 4), .inl (d 0, 8, .inl LA)), ((ad 5), .inl (d 0, 320, .inl IT)), ((ad 6), .inl (d 0, 40, .inl HE)), ((ad 7), .inl (d 0, 7, .inl OR)), ((ad 8), .inl (d 0, 6, .inl BO)), ((ad 9), .inl (d 0, 45, .inl VV)), ((ad 10), .inl (d 2, 2, .inl KP)), ((ad 11), .inl (d 0, 16, .inl TR))] : va_W)) (wm' := MW d ad (Int32.ofNat g) (Int32.ofNat t) gf gs fa fb fn fr w' TM MA LA IT HE OR BO VV KP TR) (mX0_ahead l D d cs (w0 ++ wi) ln lf dk dn him ha ta sa hv tv (Int32.ofNat t) gf (Int32.ofNat g) tra gs p1 p2 p3 _ h1) (mX9_ahead l (XE D cs w0) XE.ok D d ad (Int32.ofNat g) (Int32.ofNat t) gf gs fa fb fn fr Ww p1 p2 p3 _ h2) rfl rfl ?_ (fun q hq => (List.mem_append.mp hq).elim Or.inl (fun hq => Or.inr (List.mem_append_right _ (List.mem_append_right _ (List.mem_append_right _ (List.mem_append_right _ hq)))))) ?_ ?_ ?_
  · refine hp.trans ?_
    refine pcountP (fun f g h1 h2 h3 h4 => ?_)
    simp only [SYS, MW, oV, h1, h2, h3]
    omega
  · refine pcountP (fun f g h1 h2 h3 h4 => ?_)
    simp only [SYS, MW, oV, h1, h2, h3]
    omega
  · intro r u hu ha
    refine ⟨hu, ?_⟩
    refine ⟨gf, gs, fa, fb, fn, fr, w', TM, MA, LA, IT, HE, OR, BO, VV, KP, TR, tra, tba, tm, TB, hv, tv', LI, BE, TA, TK, RW, PA, IA, rs, ria, qa, xa, PH, IH, ln, lf, dk, dn, wi, g, t, rfl, ?_, hF.tried h3⟩
    refine pcountP (fun f g h1 h2 h3 h4 => ?_)
    simp only [SYS, MW, oV, h1, h2, h3]
    omega
  · intro r u hu
    refine ⟨hu, ?_⟩
    refine pcountP (fun f g h1 h2 h3 h4 => ?_)
    simp only [SYS, MW, oV, h1, h2, h3]
    omega
theorem L_later {l : Launch} {D : va_G} {d : Nat → ClassId} {cs : Nat → Nat} {w0 : va_W} {sa ha ta ad : Nat → Nat} {ws wm : va_W} (h : RM d sa ha ta ad w0 ws wm) (p1 : Int32) : LawI l yX0_later (ws_ yX0_later cX0_later 2 (some .int)) yX9_later (ws_ yX9_later cX9_later 2 (some .int)) [.int p1] D d cs w0 (sa 0) (ad 0) ws wm (RM d sa ha ta ad w0) := by
  obtain ⟨gf, gs, fa, fb, fn, fr, Ww, TM, MA, LA, IT, HE, OR, BO, VV, KP, TR, tra, tba, tm, TB, hv, tv, LI, BE, TA, TK, RW, PA, IA, rs, ria, qa, xa, PH, IH, ln, lf, dk, dn, wi, g, t, rfl, hp, hF⟩ := h
  have him := hF.2.2.2.2.2.2.2.2.2.2.2.2
  obtain ⟨ans, tv', w', h1, h2, h3⟩ := act_later hF.1 tv p1
  refine law_of (ans := ans) (wi := (w0 ++ wi)) (wr := (([((sa 1), .inl (d 3, 8, .inr (.inr (.inr (.inr RW))))), ((sa 2), .inl (d 1, 110, .inl TA)), ((sa 3), .inl (d 4, 24, .inr (.inr (.inr (.inr PA))))), ((sa 4), .inl (d 4, 2, .inr (.inr (.inr (.inr IA))))), ((sa 5), .inl (d 0, 6, .inl LI)), ((sa 6), .inl (d 0, 6, .inl BE)), ((sa 7), .inl (d 5, 5, .inr (.inr (.inr (.inr TK))))), (tra, .inr (4, [.ref tba, .int tm])), (tba, .inl (d 0, 16, .inl TB))] ++ (pool (rC d ria RW rs) 8 ++ (pool (pC d PA qa PH) 24 ++ (pool (iC d IH xa) 2 ++ wi)))) : va_W)) (wr9 := ([((ad 2), .inl (d 0, 110, .inl TM)), ((ad 3), .inl (d 0, 8, .inl MA)), ((ad 4), .inl (d 0, 8, .inl LA)), ((ad 5), .inl (d 0, 320, .inl IT)), ((ad 6), .inl (d 0, 40, .inl HE)), ((ad 7), .inl (d 0, 7, .inl OR)), ((ad 8), .inl (d 0, 6, .inl BO)), ((ad 9), .inl (d 0, 45, .inl VV)), ((ad 10), .inl (d 2, 2, .inl KP)), ((ad 11), .inl (d 0, 16, .inl TR))] : va_W)) (wm' := MW d ad (Int32.ofNat g) (Int32.ofNat t) gf gs fa fb fn fr w' TM MA LA IT HE OR BO VV KP TR) (mX0_later l D d cs (w0 ++ wi) ln lf dk dn him ha ta sa hv tv (Int32.ofNat t) gf (Int32.ofNat g) tra gs p1 _ h1) (mX9_later l (XE D cs w0) XE.ok D d ad (Int32.ofNat g) (Int32.ofNat t) gf gs fa fb fn fr Ww p1 _ h2) rfl rfl ?_ (fun q hq => (List.mem_append.mp hq).elim Or.inl (fun hq => Or.inr (List.mem_append_right _ (List.mem_append_right _ (List.mem_append_right _ (List.mem_append_right _ hq)))))) ?_ ?_ ?_
  · refine hp.trans ?_
    refine pcountP (fun f g h1 h2 h3 h4 => ?_)
    simp only [SYS, MW, oV, h1, h2, h3]
    omega
  · refine pcountP (fun f g h1 h2 h3 h4 => ?_)
    simp only [SYS, MW, oV, h1, h2, h3]
    omega
  · intro r u hu ha
    refine ⟨hu, ?_⟩
    refine ⟨gf, gs, fa, fb, fn, fr, w', TM, MA, LA, IT, HE, OR, BO, VV, KP, TR, tra, tba, tm, TB, hv, tv', LI, BE, TA, TK, RW, PA, IA, rs, ria, qa, xa, PH, IH, ln, lf, dk, dn, wi, g, t, rfl, ?_, hF.tried h3⟩
    refine pcountP (fun f g h1 h2 h3 h4 => ?_)
    simp only [SYS, MW, oV, h1, h2, h3]
    omega
  · intro r u hu
    refine ⟨hu, ?_⟩
    refine pcountP (fun f g h1 h2 h3 h4 => ?_)
    simp only [SYS, MW, oV, h1, h2, h3]
    omega
theorem L_fine {l : Launch} {D : va_G} {d : Nat → ClassId} {cs : Nat → Nat} {w0 : va_W} {sa ha ta ad : Nat → Nat} {ws wm : va_W} (h : RM d sa ha ta ad w0 ws wm) (p1 : Int32) : LawI l yX0_fine (ws_ yX0_fine cX0_fine 2 (some .int)) yX9_fine (ws_ yX9_fine cX9_fine 2 (some .int)) [.int p1] D d cs w0 (sa 0) (ad 0) ws wm (RM d sa ha ta ad w0) := by
  obtain ⟨gf, gs, fa, fb, fn, fr, Ww, TM, MA, LA, IT, HE, OR, BO, VV, KP, TR, tra, tba, tm, TB, hv, tv, LI, BE, TA, TK, RW, PA, IA, rs, ria, qa, xa, PH, IH, ln, lf, dk, dn, wi, g, t, rfl, hp, hF⟩ := h
  have him := hF.2.2.2.2.2.2.2.2.2.2.2.2
  obtain ⟨ans, tv', w', h1, h2, h3⟩ := act_fine hF.1 tv p1
  refine law_of (ans := ans) (wi := (w0 ++ wi)) (wr := (([((sa 1), .inl (d 3, 8, .inr (.inr (.inr (.inr RW))))), ((sa 2), .inl (d 1, 110, .inl TA)), ((sa 3), .inl (d 4, 24, .inr (.inr (.inr (.inr PA))))), ((sa 4), .inl (d 4, 2, .inr (.inr (.inr (.inr IA))))), ((sa 5), .inl (d 0, 6, .inl LI)), ((sa 6), .inl (d 0, 6, .inl BE)), ((sa 7), .inl (d 5, 5, .inr (.inr (.inr (.inr TK))))), (tra, .inr (4, [.ref tba, .int tm])), (tba, .inl (d 0, 16, .inl TB))] ++ (pool (rC d ria RW rs) 8 ++ (pool (pC d PA qa PH) 24 ++ (pool (iC d IH xa) 2 ++ wi)))) : va_W)) (wr9 := ([((ad 2), .inl (d 0, 110, .inl TM)), ((ad 3), .inl (d 0, 8, .inl MA)), ((ad 4), .inl (d 0, 8, .inl LA)), ((ad 5), .inl (d 0, 320, .inl IT)), ((ad 6), .inl (d 0, 40, .inl HE)), ((ad 7), .inl (d 0, 7, .inl OR)), ((ad 8), .inl (d 0, 6, .inl BO)), ((ad 9), .inl (d 0, 45, .inl VV)), ((ad 10), .inl (d 2, 2, .inl KP)), ((ad 11), .inl (d 0, 16, .inl TR))] : va_W)) (wm' := MW d ad (Int32.ofNat g) (Int32.ofNat t) gf gs fa fb fn fr w' TM MA LA IT HE OR BO VV KP TR) (mX0_fine l D d cs (w0 ++ wi) ln lf dk dn him ha ta sa hv tv (Int32.ofNat t) gf (Int32.ofNat g) tra gs p1 _ h1) (mX9_fine l (XE D cs w0) XE.ok D d ad (Int32.ofNat g) (Int32.ofNat t) gf gs fa fb fn fr Ww p1 _ h2) rfl rfl ?_ (fun q hq => (List.mem_append.mp hq).elim Or.inl (fun hq => Or.inr (List.mem_append_right _ (List.mem_append_right _ (List.mem_append_right _ (List.mem_append_right _ hq)))))) ?_ ?_ ?_
  · refine hp.trans ?_
    refine pcountP (fun f g h1 h2 h3 h4 => ?_)
    simp only [SYS, MW, oV, h1, h2, h3]
    omega
  · refine pcountP (fun f g h1 h2 h3 h4 => ?_)
    simp only [SYS, MW, oV, h1, h2, h3]
    omega
  · intro r u hu ha
    refine ⟨hu, ?_⟩
    refine ⟨gf, gs, fa, fb, fn, fr, w', TM, MA, LA, IT, HE, OR, BO, VV, KP, TR, tra, tba, tm, TB, hv, tv', LI, BE, TA, TK, RW, PA, IA, rs, ria, qa, xa, PH, IH, ln, lf, dk, dn, wi, g, t, rfl, ?_, hF.tried h3⟩
    refine pcountP (fun f g h1 h2 h3 h4 => ?_)
    simp only [SYS, MW, oV, h1, h2, h3]
    omega
  · intro r u hu
    refine ⟨hu, ?_⟩
    refine pcountP (fun f g h1 h2 h3 h4 => ?_)
    simp only [SYS, MW, oV, h1, h2, h3]
    omega
theorem L_when {l : Launch} {D : va_G} {d : Nat → ClassId} {cs : Nat → Nat} {w0 : va_W} {sa ha ta ad : Nat → Nat} {ws wm : va_W} (h : RM d sa ha ta ad w0 ws wm) (p1 : Int32) : LawI l yX0_when (ws_ yX0_when cX0_when 3 (some .int)) yX9_when (ws_ yX9_when cX9_when 2 (some .int)) [.int p1] D d cs w0 (sa 0) (ad 0) ws wm (RM d sa ha ta ad w0) := by
  obtain ⟨gf, gs, fa, fb, fn, fr, Ww, TM, MA, LA, IT, HE, OR, BO, VV, KP, TR, tra, tba, tm, TB, hv, tv, LI, BE, TA, TK, RW, PA, IA, rs, ria, qa, xa, PH, IH, ln, lf, dk, dn, wi, g, t, rfl, hp, hF⟩ := h
  have him := hF.2.2.2.2.2.2.2.2.2.2.2.2
  obtain ⟨ans, tv', w', h1, h2, h3⟩ := act_when hF.1 tv p1
  refine law_of (ans := ans) (wi := (w0 ++ wi)) (wr := (([((sa 1), .inl (d 3, 8, .inr (.inr (.inr (.inr RW))))), ((sa 2), .inl (d 1, 110, .inl TA)), ((sa 3), .inl (d 4, 24, .inr (.inr (.inr (.inr PA))))), ((sa 4), .inl (d 4, 2, .inr (.inr (.inr (.inr IA))))), ((sa 5), .inl (d 0, 6, .inl LI)), ((sa 6), .inl (d 0, 6, .inl BE)), ((sa 7), .inl (d 5, 5, .inr (.inr (.inr (.inr TK))))), (tra, .inr (4, [.ref tba, .int tm])), (tba, .inl (d 0, 16, .inl TB))] ++ (pool (rC d ria RW rs) 8 ++ (pool (pC d PA qa PH) 24 ++ (pool (iC d IH xa) 2 ++ wi)))) : va_W)) (wr9 := ([((ad 2), .inl (d 0, 110, .inl TM)), ((ad 3), .inl (d 0, 8, .inl MA)), ((ad 4), .inl (d 0, 8, .inl LA)), ((ad 5), .inl (d 0, 320, .inl IT)), ((ad 6), .inl (d 0, 40, .inl HE)), ((ad 7), .inl (d 0, 7, .inl OR)), ((ad 8), .inl (d 0, 6, .inl BO)), ((ad 9), .inl (d 0, 45, .inl VV)), ((ad 10), .inl (d 2, 2, .inl KP)), ((ad 11), .inl (d 0, 16, .inl TR))] : va_W)) (wm' := MW d ad (Int32.ofNat g) (Int32.ofNat t) gf gs fa fb fn fr w' TM MA LA IT HE OR BO VV KP TR) (mX0_when l D d cs (w0 ++ wi) ln lf dk dn him ha ta sa hv tv (Int32.ofNat t) gf (Int32.ofNat g) tra gs p1 _ h1) (mX9_when l (XE D cs w0) XE.ok D d ad (Int32.ofNat g) (Int32.ofNat t) gf gs fa fb fn fr Ww p1 _ h2) rfl rfl ?_ (fun q hq => (List.mem_append.mp hq).elim Or.inl (fun hq => Or.inr (List.mem_append_right _ (List.mem_append_right _ (List.mem_append_right _ (List.mem_append_right _ hq)))))) ?_ ?_ ?_
  · refine hp.trans ?_
    refine pcountP (fun f g h1 h2 h3 h4 => ?_)
    simp only [SYS, MW, oV, h1, h2, h3]
    omega
  · refine pcountP (fun f g h1 h2 h3 h4 => ?_)
    simp only [SYS, MW, oV, h1, h2, h3]
    omega
  · intro r u hu ha
    refine ⟨hu, ?_⟩
    refine ⟨gf, gs, fa, fb, fn, fr, w', TM, MA, LA, IT, HE, OR, BO, VV, KP, TR, tra, tba, tm, TB, hv, tv', LI, BE, TA, TK, RW, PA, IA, rs, ria, qa, xa, PH, IH, ln, lf, dk, dn, wi, g, t, rfl, ?_, hF.tried h3⟩
    refine pcountP (fun f g h1 h2 h3 h4 => ?_)
    simp only [SYS, MW, oV, h1, h2, h3]
    omega
  · intro r u hu
    refine ⟨hu, ?_⟩
    refine pcountP (fun f g h1 h2 h3 h4 => ?_)
    simp only [SYS, MW, oV, h1, h2, h3]
    omega
theorem L_done {l : Launch} {D : va_G} {d : Nat → ClassId} {cs : Nat → Nat} {w0 : va_W} {sa ha ta ad : Nat → Nat} {ws wm : va_W} (h : RM d sa ha ta ad w0 ws wm) : LawI l yX0_done (ws_ yX0_done cX0_done 2 (some .int)) yX9_done (ws_ yX9_done cX9_done 1 (some .int)) [] D d cs w0 (sa 0) (ad 0) ws wm (RM d sa ha ta ad w0) := by
  obtain ⟨gf, gs, fa, fb, fn, fr, Ww, TM, MA, LA, IT, HE, OR, BO, VV, KP, TR, tra, tba, tm, TB, hv, tv, LI, BE, TA, TK, RW, PA, IA, rs, ria, qa, xa, PH, IH, ln, lf, dk, dn, wi, g, t, rfl, hp, hF⟩ := h
  have him := hF.2.2.2.2.2.2.2.2.2.2.2.2
  obtain ⟨ans, tv', w', h1, h2, h3⟩ := act_done hF.1 tv
  refine law_of (ans := ans) (wi := (w0 ++ wi)) (wr := (([((sa 1), .inl (d 3, 8, .inr (.inr (.inr (.inr RW))))), ((sa 2), .inl (d 1, 110, .inl TA)), ((sa 3), .inl (d 4, 24, .inr (.inr (.inr (.inr PA))))), ((sa 4), .inl (d 4, 2, .inr (.inr (.inr (.inr IA))))), ((sa 5), .inl (d 0, 6, .inl LI)), ((sa 6), .inl (d 0, 6, .inl BE)), ((sa 7), .inl (d 5, 5, .inr (.inr (.inr (.inr TK))))), (tra, .inr (4, [.ref tba, .int tm])), (tba, .inl (d 0, 16, .inl TB))] ++ (pool (rC d ria RW rs) 8 ++ (pool (pC d PA qa PH) 24 ++ (pool (iC d IH xa) 2 ++ wi)))) : va_W)) (wr9 := ([((ad 2), .inl (d 0, 110, .inl TM)), ((ad 3), .inl (d 0, 8, .inl MA)), ((ad 4), .inl (d 0, 8, .inl LA)), ((ad 5), .inl (d 0, 320, .inl IT)), ((ad 6), .inl (d 0, 40, .inl HE)), ((ad 7), .inl (d 0, 7, .inl OR)), ((ad 8), .inl (d 0, 6, .inl BO)), ((ad 9), .inl (d 0, 45, .inl VV)), ((ad 10), .inl (d 2, 2, .inl KP)), ((ad 11), .inl (d 0, 16, .inl TR))] : va_W)) (wm' := MW d ad (Int32.ofNat g) (Int32.ofNat t) gf gs fa fb fn fr w' TM MA LA IT HE OR BO VV KP TR) (mX0_done l D d cs (w0 ++ wi) ln lf dk dn him ha ta sa hv tv (Int32.ofNat t) gf (Int32.ofNat g) tra gs _ h1) (mX9_done l (XE D cs w0) XE.ok D d ad (Int32.ofNat g) (Int32.ofNat t) gf gs fa fb fn fr Ww _ h2) rfl rfl ?_ (fun q hq => (List.mem_append.mp hq).elim Or.inl (fun hq => Or.inr (List.mem_append_right _ (List.mem_append_right _ (List.mem_append_right _ (List.mem_append_right _ hq)))))) ?_ ?_ ?_
  · refine hp.trans ?_
    refine pcountP (fun f g h1 h2 h3 h4 => ?_)
    simp only [SYS, MW, oV, h1, h2, h3]
    omega
  · refine pcountP (fun f g h1 h2 h3 h4 => ?_)
    simp only [SYS, MW, oV, h1, h2, h3]
    omega
  · intro r u hu ha
    refine ⟨hu, ?_⟩
    refine ⟨gf, gs, fa, fb, fn, fr, w', TM, MA, LA, IT, HE, OR, BO, VV, KP, TR, tra, tba, tm, TB, hv, tv', LI, BE, TA, TK, RW, PA, IA, rs, ria, qa, xa, PH, IH, ln, lf, dk, dn, wi, g, t, rfl, ?_, hF.tried h3⟩
    refine pcountP (fun f g h1 h2 h3 h4 => ?_)
    simp only [SYS, MW, oV, h1, h2, h3]
    omega
  · intro r u hu
    refine ⟨hu, ?_⟩
    refine pcountP (fun f g h1 h2 h3 h4 => ?_)
    simp only [SYS, MW, oV, h1, h2, h3]
    omega
theorem L_site {l : Launch} {D : va_G} {d : Nat → ClassId} {cs : Nat → Nat} {w0 : va_W} {sa ha ta ad : Nat → Nat} {ws wm : va_W} (h : RM d sa ha ta ad w0 ws wm) (p1 p2 : Int32) : LawI l yX0_site (ws_ yX0_site cX0_site 7 (some .int)) yX9_site (ws_ yX9_site cX9_site 7 (some .int)) [.int p1, .int p2] D d cs w0 (sa 0) (ad 0) ws wm (RM d sa ha ta ad w0) := by
  obtain ⟨gf, gs, fa, fb, fn, fr, Ww, TM, MA, LA, IT, HE, OR, BO, VV, KP, TR, tra, tba, tm, TB, hv, tv, LI, BE, TA, TK, RW, PA, IA, rs, ria, qa, xa, PH, IH, ln, lf, dk, dn, wi, g, t, rfl, hp, hF⟩ := h
  have him := hF.2.2.2.2.2.2.2.2.2.2.2.2
  obtain ⟨ans, tv', w', h1, h2, h3⟩ := act_site hF.1 tv p1 p2
  refine law_of (ans := ans) (wi := (w0 ++ wi)) (wr := (([((sa 1), .inl (d 3, 8, .inr (.inr (.inr (.inr RW))))), ((sa 2), .inl (d 1, 110, .inl TA)), ((sa 3), .inl (d 4, 24, .inr (.inr (.inr (.inr PA))))), ((sa 4), .inl (d 4, 2, .inr (.inr (.inr (.inr IA))))), ((sa 5), .inl (d 0, 6, .inl LI)), ((sa 6), .inl (d 0, 6, .inl BE)), ((sa 7), .inl (d 5, 5, .inr (.inr (.inr (.inr TK))))), (tra, .inr (4, [.ref tba, .int tm])), (tba, .inl (d 0, 16, .inl TB))] ++ (pool (rC d ria RW rs) 8 ++ (pool (pC d PA qa PH) 24 ++ (pool (iC d IH xa) 2 ++ wi)))) : va_W)) (wr9 := ([((ad 2), .inl (d 0, 110, .inl TM)), ((ad 3), .inl (d 0, 8, .inl MA)), ((ad 4), .inl (d 0, 8, .inl LA)), ((ad 5), .inl (d 0, 320, .inl IT)), ((ad 6), .inl (d 0, 40, .inl HE)), ((ad 7), .inl (d 0, 7, .inl OR)), ((ad 8), .inl (d 0, 6, .inl BO)), ((ad 9), .inl (d 0, 45, .inl VV)), ((ad 10), .inl (d 2, 2, .inl KP)), ((ad 11), .inl (d 0, 16, .inl TR))] : va_W)) (wm' := MW d ad (Int32.ofNat g) (Int32.ofNat t) gf gs fa fb fn fr w' TM MA LA IT HE OR BO VV KP TR) (mX0_site l D d cs (w0 ++ wi) ln lf dk dn him ha ta sa hv tv (Int32.ofNat t) gf (Int32.ofNat g) tra gs p1 p2 _ h1) (mX9_site l (XE D cs w0) XE.ok D d ad (Int32.ofNat g) (Int32.ofNat t) gf gs fa fb fn fr Ww p1 p2 _ h2) rfl rfl ?_ (fun q hq => (List.mem_append.mp hq).elim Or.inl (fun hq => Or.inr (List.mem_append_right _ (List.mem_append_right _ (List.mem_append_right _ (List.mem_append_right _ hq)))))) ?_ ?_ ?_
  · refine hp.trans ?_
    refine pcountP (fun f g h1 h2 h3 h4 => ?_)
    simp only [SYS, MW, oV, h1, h2, h3]
    omega
  · refine pcountP (fun f g h1 h2 h3 h4 => ?_)
    simp only [SYS, MW, oV, h1, h2, h3]
    omega
  · intro r u hu ha
    refine ⟨hu, ?_⟩
    refine ⟨gf, gs, fa, fb, fn, fr, w', TM, MA, LA, IT, HE, OR, BO, VV, KP, TR, tra, tba, tm, TB, hv, tv', LI, BE, TA, TK, RW, PA, IA, rs, ria, qa, xa, PH, IH, ln, lf, dk, dn, wi, g, t, rfl, ?_, hF.tried h3⟩
    refine pcountP (fun f g h1 h2 h3 h4 => ?_)
    simp only [SYS, MW, oV, h1, h2, h3]
    omega
  · intro r u hu
    refine ⟨hu, ?_⟩
    refine pcountP (fun f g h1 h2 h3 h4 => ?_)
    simp only [SYS, MW, oV, h1, h2, h3]
    omega
theorem L_need {l : Launch} {D : va_G} {d : Nat → ClassId} {cs : Nat → Nat} {w0 : va_W} {sa ha ta ad : Nat → Nat} {ws wm : va_W} (h : RM d sa ha ta ad w0 ws wm) (p1 p2 : Int32) : LawI l yX0_need (ws_ yX0_need cX0_need 4 (some .int)) yX9_need (ws_ yX9_need cX9_need 5 (some .int)) [.int p1, .int p2] D d cs w0 (sa 0) (ad 0) ws wm (RM d sa ha ta ad w0) := by
  obtain ⟨gf, gs, fa, fb, fn, fr, Ww, TM, MA, LA, IT, HE, OR, BO, VV, KP, TR, tra, tba, tm, TB, hv, tv, LI, BE, TA, TK, RW, PA, IA, rs, ria, qa, xa, PH, IH, ln, lf, dk, dn, wi, g, t, rfl, hp, hF⟩ := h
  have him := hF.2.2.2.2.2.2.2.2.2.2.2.2
  obtain ⟨ans, tv', w', h1, h2, h3⟩ := act_need hF.1 tv p1 p2
  refine law_of (ans := ans) (wi := (w0 ++ wi)) (wr := (([((sa 1), .inl (d 3, 8, .inr (.inr (.inr (.inr RW))))), ((sa 2), .inl (d 1, 110, .inl TA)), ((sa 3), .inl (d 4, 24, .inr (.inr (.inr (.inr PA))))), ((sa 4), .inl (d 4, 2, .inr (.inr (.inr (.inr IA))))), ((sa 5), .inl (d 0, 6, .inl LI)), ((sa 6), .inl (d 0, 6, .inl BE)), ((sa 7), .inl (d 5, 5, .inr (.inr (.inr (.inr TK))))), (tra, .inr (4, [.ref tba, .int tm])), (tba, .inl (d 0, 16, .inl TB))] ++ (pool (rC d ria RW rs) 8 ++ (pool (pC d PA qa PH) 24 ++ (pool (iC d IH xa) 2 ++ wi)))) : va_W)) (wr9 := ([((ad 2), .inl (d 0, 110, .inl TM)), ((ad 3), .inl (d 0, 8, .inl MA)), ((ad 4), .inl (d 0, 8, .inl LA)), ((ad 5), .inl (d 0, 320, .inl IT)), ((ad 6), .inl (d 0, 40, .inl HE)), ((ad 7), .inl (d 0, 7, .inl OR)), ((ad 8), .inl (d 0, 6, .inl BO)), ((ad 9), .inl (d 0, 45, .inl VV)), ((ad 10), .inl (d 2, 2, .inl KP)), ((ad 11), .inl (d 0, 16, .inl TR))] : va_W)) (wm' := MW d ad (Int32.ofNat g) (Int32.ofNat t) gf gs fa fb fn fr w' TM MA LA IT HE OR BO VV KP TR) (mX0_need l D d cs (w0 ++ wi) ln lf dk dn him ha ta sa hv tv (Int32.ofNat t) gf (Int32.ofNat g) tra gs p1 p2 _ h1) (mX9_need l (XE D cs w0) XE.ok D d ad (Int32.ofNat g) (Int32.ofNat t) gf gs fa fb fn fr Ww p1 p2 _ h2) rfl rfl ?_ (fun q hq => (List.mem_append.mp hq).elim Or.inl (fun hq => Or.inr (List.mem_append_right _ (List.mem_append_right _ (List.mem_append_right _ (List.mem_append_right _ hq)))))) ?_ ?_ ?_
  · refine hp.trans ?_
    refine pcountP (fun f g h1 h2 h3 h4 => ?_)
    simp only [SYS, MW, oV, h1, h2, h3]
    omega
  · refine pcountP (fun f g h1 h2 h3 h4 => ?_)
    simp only [SYS, MW, oV, h1, h2, h3]
    omega
  · intro r u hu ha
    refine ⟨hu, ?_⟩
    refine ⟨gf, gs, fa, fb, fn, fr, w', TM, MA, LA, IT, HE, OR, BO, VV, KP, TR, tra, tba, tm, TB, hv, tv', LI, BE, TA, TK, RW, PA, IA, rs, ria, qa, xa, PH, IH, ln, lf, dk, dn, wi, g, t, rfl, ?_, hF.tried h3⟩
    refine pcountP (fun f g h1 h2 h3 h4 => ?_)
    simp only [SYS, MW, oV, h1, h2, h3]
    omega
  · intro r u hu
    refine ⟨hu, ?_⟩
    refine pcountP (fun f g h1 h2 h3 h4 => ?_)
    simp only [SYS, MW, oV, h1, h2, h3]
    omega
theorem L_stuck {l : Launch} {D : va_G} {d : Nat → ClassId} {cs : Nat → Nat} {w0 : va_W} {sa ha ta ad : Nat → Nat} {ws wm : va_W} (h : RM d sa ha ta ad w0 ws wm) (p1 p2 p3 p4 : Int32) : LawL l yX0_stuck (ws_ yX0_stuck cX0_stuck 13 (some .long)) yX9_stuck (ws_ yX9_stuck cX9_stuck 15 (some .long)) [.int p1, .int p2, .int p3, .int p4] D d cs w0 (sa 0) (ad 0) ws wm (RM d sa ha ta ad w0) := by
  obtain ⟨gf, gs, fa, fb, fn, fr, Ww, TM, MA, LA, IT, HE, OR, BO, VV, KP, TR, tra, tba, tm, TB, hv, tv, LI, BE, TA, TK, RW, PA, IA, rs, ria, qa, xa, PH, IH, ln, lf, dk, dn, wi, g, t, rfl, hp, hF⟩ := h
  have him := hF.2.2.2.2.2.2.2.2.2.2.2.2
  obtain ⟨ans, tv', w', h1, h2, h3⟩ := act_stuck hF.1 tv p1 p2 p3 p4
  refine law_ofL (ans := ans) (wi := (w0 ++ wi)) (wr := (([((sa 1), .inl (d 3, 8, .inr (.inr (.inr (.inr RW))))), ((sa 2), .inl (d 1, 110, .inl TA)), ((sa 3), .inl (d 4, 24, .inr (.inr (.inr (.inr PA))))), ((sa 4), .inl (d 4, 2, .inr (.inr (.inr (.inr IA))))), ((sa 5), .inl (d 0, 6, .inl LI)), ((sa 6), .inl (d 0, 6, .inl BE)), ((sa 7), .inl (d 5, 5, .inr (.inr (.inr (.inr TK))))), (tra, .inr (4, [.ref tba, .int tm])), (tba, .inl (d 0, 16, .inl TB))] ++ (pool (rC d ria RW rs) 8 ++ (pool (pC d PA qa PH) 24 ++ (pool (iC d IH xa) 2 ++ wi)))) : va_W)) (wr9 := ([((ad 2), .inl (d 0, 110, .inl TM)), ((ad 3), .inl (d 0, 8, .inl MA)), ((ad 4), .inl (d 0, 8, .inl LA)), ((ad 5), .inl (d 0, 320, .inl IT)), ((ad 6), .inl (d 0, 40, .inl HE)), ((ad 7), .inl (d 0, 7, .inl OR)), ((ad 8), .inl (d 0, 6, .inl BO)), ((ad 9), .inl (d 0, 45, .inl VV)), ((ad 10), .inl (d 2, 2, .inl KP)), ((ad 11), .inl (d 0, 16, .inl TR))] : va_W)) (wm' := MW d ad (Int32.ofNat g) (Int32.ofNat t) gf gs fa fb fn fr w' TM MA LA IT HE OR BO VV KP TR) (mX0_stuck l D d cs (w0 ++ wi) ln lf dk dn him ha ta sa hv tv (Int32.ofNat t) gf (Int32.ofNat g) tra gs p1 p2 p3 p4 _ h1) (mX9_stuck l (XE D cs w0) XE.ok D d ad (Int32.ofNat g) (Int32.ofNat t) gf gs fa fb fn fr Ww p1 p2 p3 p4 _ h2) rfl rfl ?_ (fun q hq => (List.mem_append.mp hq).elim Or.inl (fun hq => Or.inr (List.mem_append_right _ (List.mem_append_right _ (List.mem_append_right _ (List.mem_append_right _ hq)))))) ?_ ?_ ?_
  · refine hp.trans ?_
    refine pcountP (fun f g h1 h2 h3 h4 => ?_)
    simp only [SYS, MW, oV, h1, h2, h3]
    omega
  · refine pcountP (fun f g h1 h2 h3 h4 => ?_)
    simp only [SYS, MW, oV, h1, h2, h3]
    omega
  · intro r u hu
    refine ⟨hu, ?_⟩
    refine ⟨gf, gs, fa, fb, fn, fr, w', TM, MA, LA, IT, HE, OR, BO, VV, KP, TR, tra, tba, tm, TB, hv, tv', LI, BE, TA, TK, RW, PA, IA, rs, ria, qa, xa, PH, IH, ln, lf, dk, dn, wi, g, t, rfl, ?_, hF.tried h3⟩
    refine pcountP (fun f g h1 h2 h3 h4 => ?_)
    simp only [SYS, MW, oV, h1, h2, h3]
    omega
  · intro r u hu
    refine ⟨hu, ?_⟩
    refine pcountP (fun f g h1 h2 h3 h4 => ?_)
    simp only [SYS, MW, oV, h1, h2, h3]
    omega
theorem L_drawn {l : Launch} {D : va_G} {d : Nat → ClassId} {cs : Nat → Nat} {w0 : va_W} {sa ha ta ad : Nat → Nat} {ws wm : va_W} (h : RM d sa ha ta ad w0 ws wm) (p1 p2 p3 : Int32) : LawI l yX0_drawn (ws_ yX0_drawn cX0_drawn 11 (some .int)) yX9_drawn (ws_ yX9_drawn cX9_drawn 11 (some .int)) [.int p1, .int p2, .int p3] D d cs w0 (sa 0) (ad 0) ws wm (RM d sa ha ta ad w0) := by
  obtain ⟨gf, gs, fa, fb, fn, fr, Ww, TM, MA, LA, IT, HE, OR, BO, VV, KP, TR, tra, tba, tm, TB, hv, tv, LI, BE, TA, TK, RW, PA, IA, rs, ria, qa, xa, PH, IH, ln, lf, dk, dn, wi, g, t, rfl, hp, hF⟩ := h
  have him := hF.2.2.2.2.2.2.2.2.2.2.2.2
  obtain ⟨ans, tv', w', h1, h2, h3⟩ := act_drawn hF.1 tv p1 p2 p3
  refine law_of (ans := ans) (wi := (w0 ++ wi)) (wr := (([((sa 1), .inl (d 3, 8, .inr (.inr (.inr (.inr RW))))), ((sa 2), .inl (d 1, 110, .inl TA)), ((sa 3), .inl (d 4, 24, .inr (.inr (.inr (.inr PA))))), ((sa 4), .inl (d 4, 2, .inr (.inr (.inr (.inr IA))))), ((sa 5), .inl (d 0, 6, .inl LI)), ((sa 6), .inl (d 0, 6, .inl BE)), ((sa 7), .inl (d 5, 5, .inr (.inr (.inr (.inr TK))))), (tra, .inr (4, [.ref tba, .int tm])), (tba, .inl (d 0, 16, .inl TB))] ++ (pool (rC d ria RW rs) 8 ++ (pool (pC d PA qa PH) 24 ++ (pool (iC d IH xa) 2 ++ wi)))) : va_W)) (wr9 := ([((ad 2), .inl (d 0, 110, .inl TM)), ((ad 3), .inl (d 0, 8, .inl MA)), ((ad 4), .inl (d 0, 8, .inl LA)), ((ad 5), .inl (d 0, 320, .inl IT)), ((ad 6), .inl (d 0, 40, .inl HE)), ((ad 7), .inl (d 0, 7, .inl OR)), ((ad 8), .inl (d 0, 6, .inl BO)), ((ad 9), .inl (d 0, 45, .inl VV)), ((ad 10), .inl (d 2, 2, .inl KP)), ((ad 11), .inl (d 0, 16, .inl TR))] : va_W)) (wm' := MW d ad (Int32.ofNat g) (Int32.ofNat t) gf gs fa fb fn fr w' TM MA LA IT HE OR BO VV KP TR) (mX0_drawn l D d cs (w0 ++ wi) ln lf dk dn him ha ta sa hv tv (Int32.ofNat t) gf (Int32.ofNat g) tra gs p1 p2 p3 _ h1) (mX9_drawn l (XE D cs w0) XE.ok D d ad (Int32.ofNat g) (Int32.ofNat t) gf gs fa fb fn fr Ww p1 p2 p3 _ h2) rfl rfl ?_ (fun q hq => (List.mem_append.mp hq).elim Or.inl (fun hq => Or.inr (List.mem_append_right _ (List.mem_append_right _ (List.mem_append_right _ (List.mem_append_right _ hq)))))) ?_ ?_ ?_
  · refine hp.trans ?_
    refine pcountP (fun f g h1 h2 h3 h4 => ?_)
    simp only [SYS, MW, oV, h1, h2, h3]
    omega
  · refine pcountP (fun f g h1 h2 h3 h4 => ?_)
    simp only [SYS, MW, oV, h1, h2, h3]
    omega
  · intro r u hu ha
    refine ⟨hu, ?_⟩
    refine ⟨gf, gs, fa, fb, fn, fr, w', TM, MA, LA, IT, HE, OR, BO, VV, KP, TR, tra, tba, tm, TB, hv, tv', LI, BE, TA, TK, RW, PA, IA, rs, ria, qa, xa, PH, IH, ln, lf, dk, dn, wi, g, t, rfl, ?_, hF.tried h3⟩
    refine pcountP (fun f g h1 h2 h3 h4 => ?_)
    simp only [SYS, MW, oV, h1, h2, h3]
    omega
  · intro r u hu
    refine ⟨hu, ?_⟩
    refine pcountP (fun f g h1 h2 h3 h4 => ?_)
    simp only [SYS, MW, oV, h1, h2, h3]
    omega
theorem L_byTurns {l : Launch} {D : va_G} {d : Nat → ClassId} {cs : Nat → Nat} {w0 : va_W} {sa ha ta ad : Nat → Nat} {ws wm : va_W} (h : RM d sa ha ta ad w0 ws wm) (p1 p2 : Int32) : LawI l yX0_byTurns (ws_ yX0_byTurns cX0_byTurns 3 (some .int)) yX9_byTurns (ws_ yX9_byTurns cX9_byTurns 9 (some .int)) [.int p1, .int p2] D d cs w0 (sa 0) (ad 0) ws wm (RM d sa ha ta ad w0) := by
  obtain ⟨gf, gs, fa, fb, fn, fr, Ww, TM, MA, LA, IT, HE, OR, BO, VV, KP, TR, tra, tba, tm, TB, hv, tv, LI, BE, TA, TK, RW, PA, IA, rs, ria, qa, xa, PH, IH, ln, lf, dk, dn, wi, g, t, rfl, hp, hF⟩ := h
  have him := hF.2.2.2.2.2.2.2.2.2.2.2.2
  obtain ⟨ans, tv', w', V', h1, h2, h3⟩ := act_byTurns hF.1 tv VV p1 p2
  refine law_of (ans := ans) (wi := (w0 ++ wi)) (wr := (([((sa 1), .inl (d 3, 8, .inr (.inr (.inr (.inr RW))))), ((sa 2), .inl (d 1, 110, .inl TA)), ((sa 3), .inl (d 4, 24, .inr (.inr (.inr (.inr PA))))), ((sa 4), .inl (d 4, 2, .inr (.inr (.inr (.inr IA))))), ((sa 5), .inl (d 0, 6, .inl LI)), ((sa 6), .inl (d 0, 6, .inl BE)), ((sa 7), .inl (d 5, 5, .inr (.inr (.inr (.inr TK))))), (tra, .inr (4, [.ref tba, .int tm])), (tba, .inl (d 0, 16, .inl TB))] ++ (pool (rC d ria RW rs) 8 ++ (pool (pC d PA qa PH) 24 ++ (pool (iC d IH xa) 2 ++ wi)))) : va_W)) (wr9 := ([((ad 2), .inl (d 0, 110, .inl TM)), ((ad 3), .inl (d 0, 8, .inl MA)), ((ad 4), .inl (d 0, 8, .inl LA)), ((ad 5), .inl (d 0, 320, .inl IT)), ((ad 6), .inl (d 0, 40, .inl HE)), ((ad 7), .inl (d 0, 7, .inl OR)), ((ad 8), .inl (d 0, 6, .inl BO)), ((ad 10), .inl (d 2, 2, .inl KP)), ((ad 11), .inl (d 0, 16, .inl TR))] : va_W)) (wm' := MW d ad (Int32.ofNat g) (Int32.ofNat t) gf gs fa fb fn fr w' TM MA LA IT HE OR BO V' KP TR) (mX0_byTurns l D d cs (w0 ++ wi) ln lf dk dn him ha ta sa hv tv (Int32.ofNat t) gf (Int32.ofNat g) tra gs p1 p2 _ h1) (mX9_byTurns l (XE D cs w0) XE.ok D d ad (Int32.ofNat g) (Int32.ofNat t) gf gs fa fb fn fr Ww VV p1 p2 _ h2) rfl rfl ?_ (fun q hq => (List.mem_append.mp hq).elim Or.inl (fun hq => Or.inr (List.mem_append_right _ (List.mem_append_right _ (List.mem_append_right _ (List.mem_append_right _ hq)))))) ?_ ?_ ?_
  · refine hp.trans ?_
    refine pcountP (fun f g h1 h2 h3 h4 => ?_)
    simp only [SYS, MW, oV, h1, h2, h3]
    omega
  · refine pcountP (fun f g h1 h2 h3 h4 => ?_)
    simp only [SYS, MW, oV, h1, h2, h3]
    omega
  · intro r u hu ha
    refine ⟨hu, ?_⟩
    refine ⟨gf, gs, fa, fb, fn, fr, w', TM, MA, LA, IT, HE, OR, BO, V', KP, TR, tra, tba, tm, TB, hv, tv', LI, BE, TA, TK, RW, PA, IA, rs, ria, qa, xa, PH, IH, ln, lf, dk, dn, wi, g, t, rfl, ?_, hF.tried h3⟩
    refine pcountP (fun f g h1 h2 h3 h4 => ?_)
    simp only [SYS, MW, oV, h1, h2, h3]
    omega
  · intro r u hu
    refine ⟨hu, ?_⟩
    refine pcountP (fun f g h1 h2 h3 h4 => ?_)
    simp only [SYS, MW, oV, h1, h2, h3]
    omega
theorem L_ranks {l : Launch} {D : va_G} {d : Nat → ClassId} {cs : Nat → Nat} {w0 : va_W} {sa ha ta ad : Nat → Nat} {ws wm : va_W} (h : RM d sa ha ta ad w0 ws wm) (p1 p2 : Int32) : LawI l yX0_ranks (ws_ yX0_ranks cX0_ranks 6 (some .int)) yX9_ranks (ws_ yX9_ranks cX9_ranks 4 (some .int)) [.int p1, .int p2] D d cs w0 (sa 0) (ad 0) ws wm (RM d sa ha ta ad w0) := by
  obtain ⟨gf, gs, fa, fb, fn, fr, Ww, TM, MA, LA, IT, HE, OR, BO, VV, KP, TR, tra, tba, tm, TB, hv, tv, LI, BE, TA, TK, RW, PA, IA, rs, ria, qa, xa, PH, IH, ln, lf, dk, dn, wi, g, t, rfl, hp, hF⟩ := h
  have him := hF.2.2.2.2.2.2.2.2.2.2.2.2
  obtain ⟨ans, LI', BE', tv', w', OR', BO', h1, h2, h3⟩ := act_ranks hF.1 tv LI BE OR BO p1 p2
  refine law_of (ans := ans) (wi := (w0 ++ wi)) (wr := (([((sa 1), .inl (d 3, 8, .inr (.inr (.inr (.inr RW))))), ((sa 2), .inl (d 1, 110, .inl TA)), ((sa 3), .inl (d 4, 24, .inr (.inr (.inr (.inr PA))))), ((sa 4), .inl (d 4, 2, .inr (.inr (.inr (.inr IA))))), ((sa 7), .inl (d 5, 5, .inr (.inr (.inr (.inr TK))))), (tra, .inr (4, [.ref tba, .int tm])), (tba, .inl (d 0, 16, .inl TB))] ++ (pool (rC d ria RW rs) 8 ++ (pool (pC d PA qa PH) 24 ++ (pool (iC d IH xa) 2 ++ wi)))) : va_W)) (wr9 := ([((ad 2), .inl (d 0, 110, .inl TM)), ((ad 3), .inl (d 0, 8, .inl MA)), ((ad 4), .inl (d 0, 8, .inl LA)), ((ad 5), .inl (d 0, 320, .inl IT)), ((ad 6), .inl (d 0, 40, .inl HE)), ((ad 9), .inl (d 0, 45, .inl VV)), ((ad 10), .inl (d 2, 2, .inl KP)), ((ad 11), .inl (d 0, 16, .inl TR))] : va_W)) (wm' := MW d ad (Int32.ofNat g) (Int32.ofNat t) gf gs fa fb fn fr w' TM MA LA IT HE OR' BO' VV KP TR) (mX0_ranks l D d cs (w0 ++ wi) ln lf dk dn him ha ta sa hv tv (Int32.ofNat t) gf (Int32.ofNat g) tra gs LI BE p1 p2 _ h1) (mX9_ranks l (XE D cs w0) XE.ok D d ad (Int32.ofNat g) (Int32.ofNat t) gf gs fa fb fn fr Ww OR BO p1 p2 _ h2) rfl rfl ?_ (fun q hq => (List.mem_append.mp hq).elim Or.inl (fun hq => Or.inr (List.mem_append_right _ (List.mem_append_right _ (List.mem_append_right _ (List.mem_append_right _ hq)))))) ?_ ?_ ?_
  · refine hp.trans ?_
    refine pcountP (fun f g h1 h2 h3 h4 => ?_)
    simp only [SYS, MW, oV, h1, h2, h3]
    omega
  · refine pcountP (fun f g h1 h2 h3 h4 => ?_)
    simp only [SYS, MW, oV, h1, h2, h3]
    omega
  · intro r u hu ha
    refine ⟨hu, ?_⟩
    refine ⟨gf, gs, fa, fb, fn, fr, w', TM, MA, LA, IT, HE, OR', BO', VV, KP, TR, tra, tba, tm, TB, hv, tv', LI', BE', TA, TK, RW, PA, IA, rs, ria, qa, xa, PH, IH, ln, lf, dk, dn, wi, g, t, rfl, ?_, hF.tried h3⟩
    refine pcountP (fun f g h1 h2 h3 h4 => ?_)
    simp only [SYS, MW, oV, h1, h2, h3]
    omega
  · intro r u hu
    refine ⟨hu, ?_⟩
    refine pcountP (fun f g h1 h2 h3 h4 => ?_)
    simp only [SYS, MW, oV, h1, h2, h3]
    omega
theorem L_dish {l : Launch} {D : va_G} {d : Nat → ClassId} {cs : Nat → Nat} {w0 : va_W} {sa ha ta ad : Nat → Nat} {ws wm : va_W} (h : RM d sa ha ta ad w0 ws wm) (p1 p2 : Int32) : LawI l yX0_dish (ws_ yX0_dish cX0_dish 3 (some .int)) yX9_dish (ws_ yX9_dish cX9_dish 3 (some .int)) [.int p1, .int p2] D d cs w0 (sa 0) (ad 0) ws wm (RM d sa ha ta ad w0) := by
  obtain ⟨gf, gs, fa, fb, fn, fr, Ww, TM, MA, LA, IT, HE, OR, BO, VV, KP, TR, tra, tba, tm, TB, hv, tv, LI, BE, TA, TK, RW, PA, IA, rs, ria, qa, xa, PH, IH, ln, lf, dk, dn, wi, g, t, rfl, hp, hF⟩ := h
  have him := hF.2.2.2.2.2.2.2.2.2.2.2.2
  obtain ⟨ans, h1, h2⟩ := act_dish hF.1 p1 p2
  refine law_of (ans := ans) (wi := (w0 ++ wi)) (wr := (([((sa 1), .inl (d 3, 8, .inr (.inr (.inr (.inr RW))))), ((sa 2), .inl (d 1, 110, .inl TA)), ((sa 3), .inl (d 4, 24, .inr (.inr (.inr (.inr PA))))), ((sa 4), .inl (d 4, 2, .inr (.inr (.inr (.inr IA))))), ((sa 5), .inl (d 0, 6, .inl LI)), ((sa 6), .inl (d 0, 6, .inl BE)), ((sa 7), .inl (d 5, 5, .inr (.inr (.inr (.inr TK))))), oV ta tv, aV d ta 1 (HHO tv), aV d ta 2 (HAT tv), aV d ta 3 (HTO tv), aV d ta 4 (HWE tv), aV d ta 5 (HHE tv), aV d ta 6 (HRA tv), (tra, .inr (4, [.ref tba, .int tm])), (tba, .inl (d 0, 16, .inl TB))] ++ (pool (rC d ria RW rs) 8 ++ (pool (pC d PA qa PH) 24 ++ (pool (iC d IH xa) 2 ++ wi)))) : va_W)) (wr9 := ([((ad 2), .inl (d 0, 110, .inl TM)), ((ad 3), .inl (d 0, 8, .inl MA)), ((ad 4), .inl (d 0, 8, .inl LA)), ((ad 5), .inl (d 0, 320, .inl IT)), ((ad 6), .inl (d 0, 40, .inl HE)), ((ad 7), .inl (d 0, 7, .inl OR)), ((ad 8), .inl (d 0, 6, .inl BO)), ((ad 9), .inl (d 0, 45, .inl VV)), ((ad 10), .inl (d 2, 2, .inl KP)), ((ad 11), .inl (d 0, 16, .inl TR))] : va_W)) (wm' := MW d ad (Int32.ofNat g) (Int32.ofNat t) gf gs fa fb fn fr Ww TM MA LA IT HE OR BO VV KP TR) (mX0_dish l D d cs (w0 ++ wi) ln lf dk dn him ha sa ta hv (Int32.ofNat t) gf (Int32.ofNat g) tra gs p1 p2 _ h1) (mX9_dish l (XE D cs w0) XE.ok D d ad (Int32.ofNat g) (Int32.ofNat t) gf gs fa fb fn fr Ww p1 p2 _ h2) rfl rfl ?_ (fun q hq => (List.mem_append.mp hq).elim Or.inl (fun hq => Or.inr (List.mem_append_right _ (List.mem_append_right _ (List.mem_append_right _ (List.mem_append_right _ hq)))))) ?_ ?_ ?_
  · refine hp.trans ?_
    refine pcountP (fun f g h1 h2 h3 h4 => ?_)
    simp only [SYS, MW, oV, h1, h2, h3]
    omega
  · refine pcountP (fun f g h1 h2 h3 h4 => ?_)
    simp only [SYS, MW, oV, h1, h2, h3]
    omega
  · intro r u hu ha
    refine ⟨hu, ?_⟩
    refine ⟨gf, gs, fa, fb, fn, fr, Ww, TM, MA, LA, IT, HE, OR, BO, VV, KP, TR, tra, tba, tm, TB, hv, tv, LI, BE, TA, TK, RW, PA, IA, rs, ria, qa, xa, PH, IH, ln, lf, dk, dn, wi, g, t, rfl, ?_, hF⟩
    refine pcountP (fun f g h1 h2 h3 h4 => ?_)
    simp only [SYS, MW, oV, h1, h2, h3]
    omega
  · intro r u hu
    refine ⟨hu, ?_⟩
    refine pcountP (fun f g h1 h2 h3 h4 => ?_)
    simp only [SYS, MW, oV, h1, h2, h3]
    omega
theorem L_car {l : Launch} {D : va_G} {d : Nat → ClassId} {cs : Nat → Nat} {w0 : va_W} {sa ha ta ad : Nat → Nat} {ws wm : va_W} (h : RM d sa ha ta ad w0 ws wm) (p1 : Int32) : LawI l yX0_car (ws_ yX0_car cX0_car 2 (some .int)) yX9_car (ws_ yX9_car cX9_car 2 (some .int)) [.int p1] D d cs w0 (sa 0) (ad 0) ws wm (RM d sa ha ta ad w0) := by
  obtain ⟨gf, gs, fa, fb, fn, fr, Ww, TM, MA, LA, IT, HE, OR, BO, VV, KP, TR, tra, tba, tm, TB, hv, tv, LI, BE, TA, TK, RW, PA, IA, rs, ria, qa, xa, PH, IH, ln, lf, dk, dn, wi, g, t, rfl, hp, hF⟩ := h
  have him := hF.2.2.2.2.2.2.2.2.2.2.2.2
  obtain ⟨ans, h1, h2⟩ := act_car hF.1 p1
  refine law_of (ans := ans) (wi := (w0 ++ wi)) (wr := (([((sa 1), .inl (d 3, 8, .inr (.inr (.inr (.inr RW))))), ((sa 2), .inl (d 1, 110, .inl TA)), ((sa 3), .inl (d 4, 24, .inr (.inr (.inr (.inr PA))))), ((sa 4), .inl (d 4, 2, .inr (.inr (.inr (.inr IA))))), ((sa 5), .inl (d 0, 6, .inl LI)), ((sa 6), .inl (d 0, 6, .inl BE)), ((sa 7), .inl (d 5, 5, .inr (.inr (.inr (.inr TK))))), oV ta tv, aV d ta 1 (HHO tv), aV d ta 2 (HAT tv), aV d ta 3 (HTO tv), aV d ta 4 (HWE tv), aV d ta 5 (HHE tv), aV d ta 6 (HRA tv), (tra, .inr (4, [.ref tba, .int tm])), (tba, .inl (d 0, 16, .inl TB))] ++ (pool (rC d ria RW rs) 8 ++ (pool (pC d PA qa PH) 24 ++ (pool (iC d IH xa) 2 ++ wi)))) : va_W)) (wr9 := ([((ad 2), .inl (d 0, 110, .inl TM)), ((ad 3), .inl (d 0, 8, .inl MA)), ((ad 4), .inl (d 0, 8, .inl LA)), ((ad 5), .inl (d 0, 320, .inl IT)), ((ad 6), .inl (d 0, 40, .inl HE)), ((ad 7), .inl (d 0, 7, .inl OR)), ((ad 8), .inl (d 0, 6, .inl BO)), ((ad 9), .inl (d 0, 45, .inl VV)), ((ad 10), .inl (d 2, 2, .inl KP)), ((ad 11), .inl (d 0, 16, .inl TR))] : va_W)) (wm' := MW d ad (Int32.ofNat g) (Int32.ofNat t) gf gs fa fb fn fr Ww TM MA LA IT HE OR BO VV KP TR) (mX0_car l D d cs (w0 ++ wi) ln lf dk dn him ha sa ta hv (Int32.ofNat t) gf (Int32.ofNat g) tra gs p1 _ h1) (mX9_car l (XE D cs w0) XE.ok D d ad (Int32.ofNat g) (Int32.ofNat t) gf gs fa fb fn fr Ww p1 _ h2) rfl rfl ?_ (fun q hq => (List.mem_append.mp hq).elim Or.inl (fun hq => Or.inr (List.mem_append_right _ (List.mem_append_right _ (List.mem_append_right _ (List.mem_append_right _ hq)))))) ?_ ?_ ?_
  · refine hp.trans ?_
    refine pcountP (fun f g h1 h2 h3 h4 => ?_)
    simp only [SYS, MW, oV, h1, h2, h3]
    omega
  · refine pcountP (fun f g h1 h2 h3 h4 => ?_)
    simp only [SYS, MW, oV, h1, h2, h3]
    omega
  · intro r u hu ha
    refine ⟨hu, ?_⟩
    refine ⟨gf, gs, fa, fb, fn, fr, Ww, TM, MA, LA, IT, HE, OR, BO, VV, KP, TR, tra, tba, tm, TB, hv, tv, LI, BE, TA, TK, RW, PA, IA, rs, ria, qa, xa, PH, IH, ln, lf, dk, dn, wi, g, t, rfl, ?_, hF⟩
    refine pcountP (fun f g h1 h2 h3 h4 => ?_)
    simp only [SYS, MW, oV, h1, h2, h3]
    omega
  · intro r u hu
    refine ⟨hu, ?_⟩
    refine pcountP (fun f g h1 h2 h3 h4 => ?_)
    simp only [SYS, MW, oV, h1, h2, h3]
    omega
theorem L_kind {l : Launch} {D : va_G} {d : Nat → ClassId} {cs : Nat → Nat} {w0 : va_W} {sa ha ta ad : Nat → Nat} {ws wm : va_W} (h : RM d sa ha ta ad w0 ws wm) (p1 : Int32) : LawI l yX0_kind (ws_ yX0_kind cX0_kind 2 (some .int)) yX9_kind (ws_ yX9_kind cX9_kind 2 (some .int)) [.int p1] D d cs w0 (sa 0) (ad 0) ws wm (RM d sa ha ta ad w0) := by
  obtain ⟨gf, gs, fa, fb, fn, fr, Ww, TM, MA, LA, IT, HE, OR, BO, VV, KP, TR, tra, tba, tm, TB, hv, tv, LI, BE, TA, TK, RW, PA, IA, rs, ria, qa, xa, PH, IH, ln, lf, dk, dn, wi, g, t, rfl, hp, hF⟩ := h
  have him := hF.2.2.2.2.2.2.2.2.2.2.2.2
  obtain ⟨ans, h1, h2⟩ := act_kind hF.1 p1
  refine law_of (ans := ans) (wi := (w0 ++ wi)) (wr := (([((sa 1), .inl (d 3, 8, .inr (.inr (.inr (.inr RW))))), ((sa 2), .inl (d 1, 110, .inl TA)), ((sa 3), .inl (d 4, 24, .inr (.inr (.inr (.inr PA))))), ((sa 4), .inl (d 4, 2, .inr (.inr (.inr (.inr IA))))), ((sa 5), .inl (d 0, 6, .inl LI)), ((sa 6), .inl (d 0, 6, .inl BE)), ((sa 7), .inl (d 5, 5, .inr (.inr (.inr (.inr TK))))), oV ta tv, aV d ta 1 (HHO tv), aV d ta 2 (HAT tv), aV d ta 3 (HTO tv), aV d ta 4 (HWE tv), aV d ta 5 (HHE tv), aV d ta 6 (HRA tv), (tra, .inr (4, [.ref tba, .int tm])), (tba, .inl (d 0, 16, .inl TB))] ++ (pool (rC d ria RW rs) 8 ++ (pool (pC d PA qa PH) 24 ++ (pool (iC d IH xa) 2 ++ wi)))) : va_W)) (wr9 := ([((ad 2), .inl (d 0, 110, .inl TM)), ((ad 3), .inl (d 0, 8, .inl MA)), ((ad 4), .inl (d 0, 8, .inl LA)), ((ad 5), .inl (d 0, 320, .inl IT)), ((ad 6), .inl (d 0, 40, .inl HE)), ((ad 7), .inl (d 0, 7, .inl OR)), ((ad 8), .inl (d 0, 6, .inl BO)), ((ad 9), .inl (d 0, 45, .inl VV)), ((ad 10), .inl (d 2, 2, .inl KP)), ((ad 11), .inl (d 0, 16, .inl TR))] : va_W)) (wm' := MW d ad (Int32.ofNat g) (Int32.ofNat t) gf gs fa fb fn fr Ww TM MA LA IT HE OR BO VV KP TR) (mX0_kind l D d cs (w0 ++ wi) ln lf dk dn him ha sa ta hv (Int32.ofNat t) gf (Int32.ofNat g) tra gs p1 _ h1) (mX9_kind l (XE D cs w0) XE.ok D d ad (Int32.ofNat g) (Int32.ofNat t) gf gs fa fb fn fr Ww p1 _ h2) rfl rfl ?_ (fun q hq => (List.mem_append.mp hq).elim Or.inl (fun hq => Or.inr (List.mem_append_right _ (List.mem_append_right _ (List.mem_append_right _ (List.mem_append_right _ hq)))))) ?_ ?_ ?_
  · refine hp.trans ?_
    refine pcountP (fun f g h1 h2 h3 h4 => ?_)
    simp only [SYS, MW, oV, h1, h2, h3]
    omega
  · refine pcountP (fun f g h1 h2 h3 h4 => ?_)
    simp only [SYS, MW, oV, h1, h2, h3]
    omega
  · intro r u hu ha
    refine ⟨hu, ?_⟩
    refine ⟨gf, gs, fa, fb, fn, fr, Ww, TM, MA, LA, IT, HE, OR, BO, VV, KP, TR, tra, tba, tm, TB, hv, tv, LI, BE, TA, TK, RW, PA, IA, rs, ria, qa, xa, PH, IH, ln, lf, dk, dn, wi, g, t, rfl, ?_, hF⟩
    refine pcountP (fun f g h1 h2 h3 h4 => ?_)
    simp only [SYS, MW, oV, h1, h2, h3]
    omega
  · intro r u hu
    refine ⟨hu, ?_⟩
    refine pcountP (fun f g h1 h2 h3 h4 => ?_)
    simp only [SYS, MW, oV, h1, h2, h3]
    omega
theorem L_share {l : Launch} {D : va_G} {d : Nat → ClassId} {cs : Nat → Nat} {w0 : va_W} {sa ha ta ad : Nat → Nat} {ws wm : va_W} (h : RM d sa ha ta ad w0 ws wm) (p1 p2 : Int32) : LawI l yX0_share (ws_ yX0_share cX0_share 7 (some .int)) yX9_share (ws_ yX9_share cX9_share 8 (some .int)) [.int p1, .int p2] D d cs w0 (sa 0) (ad 0) ws wm (RM d sa ha ta ad w0) := by
  obtain ⟨gf, gs, fa, fb, fn, fr, Ww, TM, MA, LA, IT, HE, OR, BO, VV, KP, TR, tra, tba, tm, TB, hv, tv, LI, BE, TA, TK, RW, PA, IA, rs, ria, qa, xa, PH, IH, ln, lf, dk, dn, wi, g, t, rfl, hp, hF⟩ := h
  have him := hF.2.2.2.2.2.2.2.2.2.2.2.2
  obtain ⟨ans, h1, h2⟩ := act_share hF.1 p1 p2
  refine law_of (ans := ans) (wi := (w0 ++ wi)) (wr := (([((sa 1), .inl (d 3, 8, .inr (.inr (.inr (.inr RW))))), ((sa 2), .inl (d 1, 110, .inl TA)), ((sa 3), .inl (d 4, 24, .inr (.inr (.inr (.inr PA))))), ((sa 4), .inl (d 4, 2, .inr (.inr (.inr (.inr IA))))), ((sa 5), .inl (d 0, 6, .inl LI)), ((sa 6), .inl (d 0, 6, .inl BE)), ((sa 7), .inl (d 5, 5, .inr (.inr (.inr (.inr TK))))), oV ta tv, aV d ta 1 (HHO tv), aV d ta 2 (HAT tv), aV d ta 3 (HTO tv), aV d ta 4 (HWE tv), aV d ta 5 (HHE tv), aV d ta 6 (HRA tv), (tra, .inr (4, [.ref tba, .int tm])), (tba, .inl (d 0, 16, .inl TB))] ++ (pool (rC d ria RW rs) 8 ++ (pool (pC d PA qa PH) 24 ++ (pool (iC d IH xa) 2 ++ wi)))) : va_W)) (wr9 := ([((ad 2), .inl (d 0, 110, .inl TM)), ((ad 3), .inl (d 0, 8, .inl MA)), ((ad 4), .inl (d 0, 8, .inl LA)), ((ad 5), .inl (d 0, 320, .inl IT)), ((ad 6), .inl (d 0, 40, .inl HE)), ((ad 7), .inl (d 0, 7, .inl OR)), ((ad 8), .inl (d 0, 6, .inl BO)), ((ad 9), .inl (d 0, 45, .inl VV)), ((ad 10), .inl (d 2, 2, .inl KP)), ((ad 11), .inl (d 0, 16, .inl TR))] : va_W)) (wm' := MW d ad (Int32.ofNat g) (Int32.ofNat t) gf gs fa fb fn fr Ww TM MA LA IT HE OR BO VV KP TR) (mX0_share l D d cs (w0 ++ wi) ln lf dk dn him ha sa ta hv (Int32.ofNat t) gf (Int32.ofNat g) tra gs p1 p2 _ h1) (mX9_share l (XE D cs w0) XE.ok D d ad (Int32.ofNat g) (Int32.ofNat t) gf gs fa fb fn fr Ww p1 p2 _ h2) rfl rfl ?_ (fun q hq => (List.mem_append.mp hq).elim Or.inl (fun hq => Or.inr (List.mem_append_right _ (List.mem_append_right _ (List.mem_append_right _ (List.mem_append_right _ hq)))))) ?_ ?_ ?_
  · refine hp.trans ?_
    refine pcountP (fun f g h1 h2 h3 h4 => ?_)
    simp only [SYS, MW, oV, h1, h2, h3]
    omega
  · refine pcountP (fun f g h1 h2 h3 h4 => ?_)
    simp only [SYS, MW, oV, h1, h2, h3]
    omega
  · intro r u hu ha
    refine ⟨hu, ?_⟩
    refine ⟨gf, gs, fa, fb, fn, fr, Ww, TM, MA, LA, IT, HE, OR, BO, VV, KP, TR, tra, tba, tm, TB, hv, tv, LI, BE, TA, TK, RW, PA, IA, rs, ria, qa, xa, PH, IH, ln, lf, dk, dn, wi, g, t, rfl, ?_, hF⟩
    refine pcountP (fun f g h1 h2 h3 h4 => ?_)
    simp only [SYS, MW, oV, h1, h2, h3]
    omega
  · intro r u hu
    refine ⟨hu, ?_⟩
    refine pcountP (fun f g h1 h2 h3 h4 => ?_)
    simp only [SYS, MW, oV, h1, h2, h3]
    omega
theorem L_holds {l : Launch} {D : va_G} {d : Nat → ClassId} {cs : Nat → Nat} {w0 : va_W} {sa ha ta ad : Nat → Nat} {ws wm : va_W} (h : RM d sa ha ta ad w0 ws wm) (p1 : Int32) : LawI l yX0_holds (ws_ yX0_holds cX0_holds 7 (some .int)) yX9_holds (ws_ yX9_holds cX9_holds 7 (some .int)) [.int p1] D d cs w0 (sa 0) (ad 0) ws wm (RM d sa ha ta ad w0) := by
  obtain ⟨gf, gs, fa, fb, fn, fr, Ww, TM, MA, LA, IT, HE, OR, BO, VV, KP, TR, tra, tba, tm, TB, hv, tv, LI, BE, TA, TK, RW, PA, IA, rs, ria, qa, xa, PH, IH, ln, lf, dk, dn, wi, g, t, rfl, hp, hF⟩ := h
  have him := hF.2.2.2.2.2.2.2.2.2.2.2.2
  obtain ⟨ans, h1, h2⟩ := act_holds hF.1 p1
  refine law_of (ans := ans) (wi := (w0 ++ wi)) (wr := (([((sa 1), .inl (d 3, 8, .inr (.inr (.inr (.inr RW))))), ((sa 2), .inl (d 1, 110, .inl TA)), ((sa 3), .inl (d 4, 24, .inr (.inr (.inr (.inr PA))))), ((sa 4), .inl (d 4, 2, .inr (.inr (.inr (.inr IA))))), ((sa 5), .inl (d 0, 6, .inl LI)), ((sa 6), .inl (d 0, 6, .inl BE)), ((sa 7), .inl (d 5, 5, .inr (.inr (.inr (.inr TK))))), oV ta tv, aV d ta 1 (HHO tv), aV d ta 2 (HAT tv), aV d ta 3 (HTO tv), aV d ta 4 (HWE tv), aV d ta 5 (HHE tv), aV d ta 6 (HRA tv), (tra, .inr (4, [.ref tba, .int tm])), (tba, .inl (d 0, 16, .inl TB))] ++ (pool (rC d ria RW rs) 8 ++ (pool (pC d PA qa PH) 24 ++ (pool (iC d IH xa) 2 ++ wi)))) : va_W)) (wr9 := ([((ad 2), .inl (d 0, 110, .inl TM)), ((ad 3), .inl (d 0, 8, .inl MA)), ((ad 4), .inl (d 0, 8, .inl LA)), ((ad 5), .inl (d 0, 320, .inl IT)), ((ad 6), .inl (d 0, 40, .inl HE)), ((ad 7), .inl (d 0, 7, .inl OR)), ((ad 8), .inl (d 0, 6, .inl BO)), ((ad 9), .inl (d 0, 45, .inl VV)), ((ad 10), .inl (d 2, 2, .inl KP)), ((ad 11), .inl (d 0, 16, .inl TR))] : va_W)) (wm' := MW d ad (Int32.ofNat g) (Int32.ofNat t) gf gs fa fb fn fr Ww TM MA LA IT HE OR BO VV KP TR) (mX0_holds l D d cs (w0 ++ wi) ln lf dk dn him ha sa ta hv (Int32.ofNat t) gf (Int32.ofNat g) tra gs p1 _ h1) (mX9_holds l (XE D cs w0) XE.ok D d ad (Int32.ofNat g) (Int32.ofNat t) gf gs fa fb fn fr Ww p1 _ h2) rfl rfl ?_ (fun q hq => (List.mem_append.mp hq).elim Or.inl (fun hq => Or.inr (List.mem_append_right _ (List.mem_append_right _ (List.mem_append_right _ (List.mem_append_right _ hq)))))) ?_ ?_ ?_
  · refine hp.trans ?_
    refine pcountP (fun f g h1 h2 h3 h4 => ?_)
    simp only [SYS, MW, oV, h1, h2, h3]
    omega
  · refine pcountP (fun f g h1 h2 h3 h4 => ?_)
    simp only [SYS, MW, oV, h1, h2, h3]
    omega
  · intro r u hu ha
    refine ⟨hu, ?_⟩
    refine ⟨gf, gs, fa, fb, fn, fr, Ww, TM, MA, LA, IT, HE, OR, BO, VV, KP, TR, tra, tba, tm, TB, hv, tv, LI, BE, TA, TK, RW, PA, IA, rs, ria, qa, xa, PH, IH, ln, lf, dk, dn, wi, g, t, rfl, ?_, hF⟩
    refine pcountP (fun f g h1 h2 h3 h4 => ?_)
    simp only [SYS, MW, oV, h1, h2, h3]
    omega
  · intro r u hu
    refine ⟨hu, ?_⟩
    refine pcountP (fun f g h1 h2 h3 h4 => ?_)
    simp only [SYS, MW, oV, h1, h2, h3]
    omega
theorem L_trace {l : Launch} {D : va_G} {d : Nat → ClassId} {cs : Nat → Nat} {w0 : va_W} {sa ha ta ad : Nat → Nat} {ws wm : va_W} (h : RM d sa ha ta ad w0 ws wm) (p1 : Int32) : LawI l yX0_trace (ws_ yX0_trace cX0_trace 2 (some .int)) yX9_trace (ws_ yX9_trace cX9_trace 2 (some .int)) [.int p1] D d cs w0 (sa 0) (ad 0) ws wm (RM d sa ha ta ad w0) := by
  obtain ⟨gf, gs, fa, fb, fn, fr, Ww, TM, MA, LA, IT, HE, OR, BO, VV, KP, TR, tra, tba, tm, TB, hv, tv, LI, BE, TA, TK, RW, PA, IA, rs, ria, qa, xa, PH, IH, ln, lf, dk, dn, wi, g, t, rfl, hp, hF⟩ := h
  have him := hF.2.2.2.2.2.2.2.2.2.2.2.2
  obtain ⟨ans, h1, h2⟩ := act_trace (tn := 16) hF.2.2.2.2.2.1 (by decide) (by decide) p1
  refine law_of (ans := ans) (wi := (w0 ++ wi)) (wr := (([((sa 1), .inl (d 3, 8, .inr (.inr (.inr (.inr RW))))), ((sa 2), .inl (d 1, 110, .inl TA)), ((sa 3), .inl (d 4, 24, .inr (.inr (.inr (.inr PA))))), ((sa 4), .inl (d 4, 2, .inr (.inr (.inr (.inr IA))))), ((sa 5), .inl (d 0, 6, .inl LI)), ((sa 6), .inl (d 0, 6, .inl BE)), ((sa 7), .inl (d 5, 5, .inr (.inr (.inr (.inr TK))))), oV ha hv, aV d ha 1 (HHO hv), aV d ha 2 (HAT hv), aV d ha 3 (HTO hv), aV d ha 4 (HWE hv), aV d ha 5 (HHE hv), aV d ha 6 (HRA hv), oV ta tv, aV d ta 1 (HHO tv), aV d ta 2 (HAT tv), aV d ta 3 (HTO tv), aV d ta 4 (HWE tv), aV d ta 5 (HHE tv), aV d ta 6 (HRA tv)] ++ (pool (rC d ria RW rs) 8 ++ (pool (pC d PA qa PH) 24 ++ (pool (iC d IH xa) 2 ++ wi)))) : va_W)) (wr9 := ([((ad 1), .inl (d 0, 1247, .inl Ww)), ((ad 2), .inl (d 0, 110, .inl TM)), ((ad 3), .inl (d 0, 8, .inl MA)), ((ad 4), .inl (d 0, 8, .inl LA)), ((ad 5), .inl (d 0, 320, .inl IT)), ((ad 6), .inl (d 0, 40, .inl HE)), ((ad 7), .inl (d 0, 7, .inl OR)), ((ad 8), .inl (d 0, 6, .inl BO)), ((ad 9), .inl (d 0, 45, .inl VV)), ((ad 10), .inl (d 2, 2, .inl KP))] : va_W)) (wm' := MW d ad (Int32.ofNat g) (Int32.ofNat t) gf gs fa fb fn fr Ww TM MA LA IT HE OR BO VV KP TR) (mX0_trace l D d cs (w0 ++ wi) ln lf dk dn him sa ha ta tra tba 16 (Int32.ofNat t) gf (Int32.ofNat g) gs tm TB p1 _ h1) (mX9_trace l (XE D cs w0) XE.ok D d ad (Int32.ofNat g) (Int32.ofNat t) gf gs fa fb fn fr TR p1 _ h2) rfl rfl ?_ (fun q hq => (List.mem_append.mp hq).elim Or.inl (fun hq => Or.inr (List.mem_append_right _ (List.mem_append_right _ (List.mem_append_right _ (List.mem_append_right _ hq)))))) ?_ ?_ ?_
  · refine hp.trans ?_
    refine pcountP (fun f g h1 h2 h3 h4 => ?_)
    simp only [SYS, MW, oV, h1, h2, h3]
    omega
  · refine pcountP (fun f g h1 h2 h3 h4 => ?_)
    simp only [SYS, MW, oV, h1, h2, h3]
    omega
  · intro r u hu ha
    refine ⟨hu, ?_⟩
    refine ⟨gf, gs, fa, fb, fn, fr, Ww, TM, MA, LA, IT, HE, OR, BO, VV, KP, TR, tra, tba, tm, TB, hv, tv, LI, BE, TA, TK, RW, PA, IA, rs, ria, qa, xa, PH, IH, ln, lf, dk, dn, wi, g, t, rfl, ?_, hF⟩
    refine pcountP (fun f g h1 h2 h3 h4 => ?_)
    simp only [SYS, MW, oV, h1, h2, h3]
    omega
  · intro r u hu
    refine ⟨hu, ?_⟩
    refine pcountP (fun f g h1 h2 h3 h4 => ?_)
    simp only [SYS, MW, oV, h1, h2, h3]
    omega
theorem L_count {l : Launch} {D : va_G} {d : Nat → ClassId} {cs : Nat → Nat} {w0 : va_W} {sa ha ta ad : Nat → Nat} {ws wm : va_W} (h : RM d sa ha ta ad w0 ws wm) (p1 : Int32) : LawI l yX0_count (ws_ yX0_count cX0_count 4 (some .int)) yX9_count (ws_ yX9_count cX9_count 2 (some .int)) [.int p1] D d cs w0 (sa 0) (ad 0) ws wm (RM d sa ha ta ad w0) := by
  obtain ⟨gf, gs, fa, fb, fn, fr, Ww, TM, MA, LA, IT, HE, OR, BO, VV, KP, TR, tra, tba, tm, TB, hv, tv, LI, BE, TA, TK, RW, PA, IA, rs, ria, qa, xa, PH, IH, ln, lf, dk, dn, wi, g, t, rfl, hp, hF⟩ := h
  have him := hF.2.2.2.2.2.2.2.2.2.2.2.2
  have hRW : ∀ i, i < 8 → (RW i).isSome = (rs i).isSome := by
    intro i hi
    rcases hF.2.2.2.2.1 i hi with ⟨a, b⟩ | ⟨x, a, b, e⟩
    · rw [a, b]; rfl
    · rw [e, b]; rfl
  obtain ⟨ans, h1, h2⟩ := act_count (RW := RW) hF.1 hF.2.2.2.1 hRW (Int32.ofNat t) (Int32.ofNat g) p1
  refine law_of (ans := ans) (wi := (w0 ++ wi)) (wr := (([((sa 2), .inl (d 1, 110, .inl TA)), ((sa 3), .inl (d 4, 24, .inr (.inr (.inr (.inr PA))))), ((sa 4), .inl (d 4, 2, .inr (.inr (.inr (.inr IA))))), ((sa 5), .inl (d 0, 6, .inl LI)), ((sa 6), .inl (d 0, 6, .inl BE)), ((sa 7), .inl (d 5, 5, .inr (.inr (.inr (.inr TK))))), oV ta tv, aV d ta 1 (HHO tv), aV d ta 2 (HAT tv), aV d ta 3 (HTO tv), aV d ta 4 (HWE tv), aV d ta 5 (HHE tv), aV d ta 6 (HRA tv), (tra, .inr (4, [.ref tba, .int tm])), (tba, .inl (d 0, 16, .inl TB))] ++ (pool (rC d ria RW rs) 8 ++ (pool (pC d PA qa PH) 24 ++ (pool (iC d IH xa) 2 ++ wi)))) : va_W)) (wr9 := ([((ad 2), .inl (d 0, 110, .inl TM)), ((ad 4), .inl (d 0, 8, .inl LA)), ((ad 5), .inl (d 0, 320, .inl IT)), ((ad 6), .inl (d 0, 40, .inl HE)), ((ad 7), .inl (d 0, 7, .inl OR)), ((ad 8), .inl (d 0, 6, .inl BO)), ((ad 9), .inl (d 0, 45, .inl VV)), ((ad 10), .inl (d 2, 2, .inl KP)), ((ad 11), .inl (d 0, 16, .inl TR))] : va_W)) (wm' := MW d ad (Int32.ofNat g) (Int32.ofNat t) gf gs fa fb fn fr Ww TM MA LA IT HE OR BO VV KP TR) (mX0_count l D d cs (w0 ++ wi) ln lf dk dn him ha sa ta hv (Int32.ofNat t) gf (Int32.ofNat g) tra gs RW p1 _ h1) (mX9_count l (XE D cs w0) XE.ok D d ad (Int32.ofNat g) (Int32.ofNat t) gf gs fa fb fn fr Ww MA p1 _ h2) rfl rfl ?_ (fun q hq => (List.mem_append.mp hq).elim Or.inl (fun hq => Or.inr (List.mem_append_right _ (List.mem_append_right _ (List.mem_append_right _ (List.mem_append_right _ hq)))))) ?_ ?_ ?_
  · refine hp.trans ?_
    refine pcountP (fun f g h1 h2 h3 h4 => ?_)
    simp only [SYS, MW, oV, h1, h2, h3]
    omega
  · refine pcountP (fun f g h1 h2 h3 h4 => ?_)
    simp only [SYS, MW, oV, h1, h2, h3]
    omega
  · intro r u hu ha
    refine ⟨hu, ?_⟩
    refine ⟨gf, gs, fa, fb, fn, fr, Ww, TM, MA, LA, IT, HE, OR, BO, VV, KP, TR, tra, tba, tm, TB, hv, tv, LI, BE, TA, TK, RW, PA, IA, rs, ria, qa, xa, PH, IH, ln, lf, dk, dn, wi, g, t, rfl, ?_, hF⟩
    refine pcountP (fun f g h1 h2 h3 h4 => ?_)
    simp only [SYS, MW, oV, h1, h2, h3]
    omega
  · intro r u hu
    refine ⟨hu, ?_⟩
    refine pcountP (fun f g h1 h2 h3 h4 => ?_)
    simp only [SYS, MW, oV, h1, h2, h3]
    omega
theorem L_status {l : Launch} {D : va_G} {d : Nat → ClassId} {cs : Nat → Nat} {w0 : va_W} {sa ha ta ad : Nat → Nat} {ws wm : va_W} (h : RM d sa ha ta ad w0 ws wm) : LawI l yX0_status (ws_ yX0_status cX0_status 1 (some .int)) yX9_status (ws_ yX9_status cX9_status 1 (some .int)) [] D d cs w0 (sa 0) (ad 0) ws wm (RM d sa ha ta ad w0) := by
  obtain ⟨gf, gs, fa, fb, fn, fr, Ww, TM, MA, LA, IT, HE, OR, BO, VV, KP, TR, tra, tba, tm, TB, hv, tv, LI, BE, TA, TK, RW, PA, IA, rs, ria, qa, xa, PH, IH, ln, lf, dk, dn, wi, g, t, rfl, hp, hF⟩ := h
  have him := hF.2.2.2.2.2.2.2.2.2.2.2.2
  have h1 : fX0_status gs = some gs := rfl
  have h2 : fX9_status gs = some gs := rfl
  refine law_of (ans := gs) (wi := (w0 ++ wi)) (wr := (([((sa 1), .inl (d 3, 8, .inr (.inr (.inr (.inr RW))))), ((sa 2), .inl (d 1, 110, .inl TA)), ((sa 3), .inl (d 4, 24, .inr (.inr (.inr (.inr PA))))), ((sa 4), .inl (d 4, 2, .inr (.inr (.inr (.inr IA))))), ((sa 5), .inl (d 0, 6, .inl LI)), ((sa 6), .inl (d 0, 6, .inl BE)), ((sa 7), .inl (d 5, 5, .inr (.inr (.inr (.inr TK))))), oV ha hv, aV d ha 1 (HHO hv), aV d ha 2 (HAT hv), aV d ha 3 (HTO hv), aV d ha 4 (HWE hv), aV d ha 5 (HHE hv), aV d ha 6 (HRA hv), oV ta tv, aV d ta 1 (HHO tv), aV d ta 2 (HAT tv), aV d ta 3 (HTO tv), aV d ta 4 (HWE tv), aV d ta 5 (HHE tv), aV d ta 6 (HRA tv), (tra, .inr (4, [.ref tba, .int tm])), (tba, .inl (d 0, 16, .inl TB))] ++ (pool (rC d ria RW rs) 8 ++ (pool (pC d PA qa PH) 24 ++ (pool (iC d IH xa) 2 ++ wi)))) : va_W)) (wr9 := ([((ad 1), .inl (d 0, 1247, .inl Ww)), ((ad 2), .inl (d 0, 110, .inl TM)), ((ad 3), .inl (d 0, 8, .inl MA)), ((ad 4), .inl (d 0, 8, .inl LA)), ((ad 5), .inl (d 0, 320, .inl IT)), ((ad 6), .inl (d 0, 40, .inl HE)), ((ad 7), .inl (d 0, 7, .inl OR)), ((ad 8), .inl (d 0, 6, .inl BO)), ((ad 9), .inl (d 0, 45, .inl VV)), ((ad 10), .inl (d 2, 2, .inl KP)), ((ad 11), .inl (d 0, 16, .inl TR))] : va_W)) (wm' := MW d ad (Int32.ofNat g) (Int32.ofNat t) gf gs fa fb fn fr Ww TM MA LA IT HE OR BO VV KP TR) (mX0_status l D d cs (w0 ++ wi) ln lf dk dn him sa ha ta (Int32.ofNat t) gf (Int32.ofNat g) tra gs _ h1) (mX9_status l (XE D cs w0) XE.ok D d ad (Int32.ofNat g) (Int32.ofNat t) gf gs fa fb fn fr _ h2) rfl rfl ?_ (fun q hq => (List.mem_append.mp hq).elim Or.inl (fun hq => Or.inr (List.mem_append_right _ (List.mem_append_right _ (List.mem_append_right _ (List.mem_append_right _ hq)))))) ?_ ?_ ?_
  · refine hp.trans ?_
    refine pcountP (fun f g h1 h2 h3 h4 => ?_)
    simp only [SYS, MW, oV, h1, h2, h3]
    omega
  · refine pcountP (fun f g h1 h2 h3 h4 => ?_)
    simp only [SYS, MW, oV, h1, h2, h3]
    omega
  · intro r u hu ha
    refine ⟨hu, ?_⟩
    refine ⟨gf, gs, fa, fb, fn, fr, Ww, TM, MA, LA, IT, HE, OR, BO, VV, KP, TR, tra, tba, tm, TB, hv, tv, LI, BE, TA, TK, RW, PA, IA, rs, ria, qa, xa, PH, IH, ln, lf, dk, dn, wi, g, t, rfl, ?_, hF⟩
    refine pcountP (fun f g h1 h2 h3 h4 => ?_)
    simp only [SYS, MW, oV, h1, h2, h3]
    omega
  · intro r u hu
    refine ⟨hu, ?_⟩
    refine pcountP (fun f g h1 h2 h3 h4 => ?_)
    simp only [SYS, MW, oV, h1, h2, h3]
    omega
theorem L_fault {l : Launch} {D : va_G} {d : Nat → ClassId} {cs : Nat → Nat} {w0 : va_W} {sa ha ta ad : Nat → Nat} {ws wm : va_W} (h : RM d sa ha ta ad w0 ws wm) : LawI l yX0_fault (ws_ yX0_fault cX0_fault 1 (some .int)) yX9_fault (ws_ yX9_fault cX9_fault 1 (some .int)) [] D d cs w0 (sa 0) (ad 0) ws wm (RM d sa ha ta ad w0) := by
  obtain ⟨gf, gs, fa, fb, fn, fr, Ww, TM, MA, LA, IT, HE, OR, BO, VV, KP, TR, tra, tba, tm, TB, hv, tv, LI, BE, TA, TK, RW, PA, IA, rs, ria, qa, xa, PH, IH, ln, lf, dk, dn, wi, g, t, rfl, hp, hF⟩ := h
  have him := hF.2.2.2.2.2.2.2.2.2.2.2.2
  have h1 : fX0_fault gf = some gf := rfl
  have h2 : fX9_fault gf = some gf := rfl
  refine law_of (ans := gf) (wi := (w0 ++ wi)) (wr := (([((sa 1), .inl (d 3, 8, .inr (.inr (.inr (.inr RW))))), ((sa 2), .inl (d 1, 110, .inl TA)), ((sa 3), .inl (d 4, 24, .inr (.inr (.inr (.inr PA))))), ((sa 4), .inl (d 4, 2, .inr (.inr (.inr (.inr IA))))), ((sa 5), .inl (d 0, 6, .inl LI)), ((sa 6), .inl (d 0, 6, .inl BE)), ((sa 7), .inl (d 5, 5, .inr (.inr (.inr (.inr TK))))), oV ha hv, aV d ha 1 (HHO hv), aV d ha 2 (HAT hv), aV d ha 3 (HTO hv), aV d ha 4 (HWE hv), aV d ha 5 (HHE hv), aV d ha 6 (HRA hv), oV ta tv, aV d ta 1 (HHO tv), aV d ta 2 (HAT tv), aV d ta 3 (HTO tv), aV d ta 4 (HWE tv), aV d ta 5 (HHE tv), aV d ta 6 (HRA tv), (tra, .inr (4, [.ref tba, .int tm])), (tba, .inl (d 0, 16, .inl TB))] ++ (pool (rC d ria RW rs) 8 ++ (pool (pC d PA qa PH) 24 ++ (pool (iC d IH xa) 2 ++ wi)))) : va_W)) (wr9 := ([((ad 1), .inl (d 0, 1247, .inl Ww)), ((ad 2), .inl (d 0, 110, .inl TM)), ((ad 3), .inl (d 0, 8, .inl MA)), ((ad 4), .inl (d 0, 8, .inl LA)), ((ad 5), .inl (d 0, 320, .inl IT)), ((ad 6), .inl (d 0, 40, .inl HE)), ((ad 7), .inl (d 0, 7, .inl OR)), ((ad 8), .inl (d 0, 6, .inl BO)), ((ad 9), .inl (d 0, 45, .inl VV)), ((ad 10), .inl (d 2, 2, .inl KP)), ((ad 11), .inl (d 0, 16, .inl TR))] : va_W)) (wm' := MW d ad (Int32.ofNat g) (Int32.ofNat t) gf gs fa fb fn fr Ww TM MA LA IT HE OR BO VV KP TR) (mX0_fault l D d cs (w0 ++ wi) ln lf dk dn him sa ha ta (Int32.ofNat t) gf (Int32.ofNat g) tra gs _ h1) (mX9_fault l (XE D cs w0) XE.ok D d ad (Int32.ofNat g) (Int32.ofNat t) gf gs fa fb fn fr _ h2) rfl rfl ?_ (fun q hq => (List.mem_append.mp hq).elim Or.inl (fun hq => Or.inr (List.mem_append_right _ (List.mem_append_right _ (List.mem_append_right _ (List.mem_append_right _ hq)))))) ?_ ?_ ?_
  · refine hp.trans ?_
    refine pcountP (fun f g h1 h2 h3 h4 => ?_)
    simp only [SYS, MW, oV, h1, h2, h3]
    omega
  · refine pcountP (fun f g h1 h2 h3 h4 => ?_)
    simp only [SYS, MW, oV, h1, h2, h3]
    omega
  · intro r u hu ha
    refine ⟨hu, ?_⟩
    refine ⟨gf, gs, fa, fb, fn, fr, Ww, TM, MA, LA, IT, HE, OR, BO, VV, KP, TR, tra, tba, tm, TB, hv, tv, LI, BE, TA, TK, RW, PA, IA, rs, ria, qa, xa, PH, IH, ln, lf, dk, dn, wi, g, t, rfl, ?_, hF⟩
    refine pcountP (fun f g h1 h2 h3 h4 => ?_)
    simp only [SYS, MW, oV, h1, h2, h3]
    omega
  · intro r u hu
    refine ⟨hu, ?_⟩
    refine pcountP (fun f g h1 h2 h3 h4 => ?_)
    simp only [SYS, MW, oV, h1, h2, h3]
    omega
theorem L_feed {l : Launch} {D : va_G} {d : Nat → ClassId} {cs : Nat → Nat} {w0 : va_W} {sa ha ta ad : Nat → Nat} {ws wm : va_W} (h : RM d sa ha ta ad w0 ws wm) (p1 : Int32) : LawI l yX0_feed (ws_ yX0_feed cX0_feed 2 (some .int)) yX9_feed (ws_ yX9_feed cX9_feed 2 (some .int)) [.int p1] D d cs w0 (sa 0) (ad 0) ws wm (RM d sa ha ta ad w0) := by
  obtain ⟨gf, gs, fa, fb, fn, fr, Ww, TM, MA, LA, IT, HE, OR, BO, VV, KP, TR, tra, tba, tm, TB, hv, tv, LI, BE, TA, TK, RW, PA, IA, rs, ria, qa, xa, PH, IH, ln, lf, dk, dn, wi, g, t, rfl, hp, hF⟩ := h
  obtain ⟨hT, hP, hI, hRR, hRW, hTT, hTP, hGE, hTK, hPA, hPA2, hIA, him⟩ := hF
  obtain ⟨ans, t', TA', TM', h1, h2, h3⟩ := act_feed hTP p1
  refine law_of (ans := ans) (wi := (w0 ++ wi)) (wr := (([((sa 1), .inl (d 3, 8, .inr (.inr (.inr (.inr RW))))), ((sa 3), .inl (d 4, 24, .inr (.inr (.inr (.inr PA))))), ((sa 4), .inl (d 4, 2, .inr (.inr (.inr (.inr IA))))), ((sa 5), .inl (d 0, 6, .inl LI)), ((sa 6), .inl (d 0, 6, .inl BE)), ((sa 7), .inl (d 5, 5, .inr (.inr (.inr (.inr TK))))), oV ha hv, aV d ha 1 (HHO hv), aV d ha 2 (HAT hv), aV d ha 3 (HTO hv), aV d ha 4 (HWE hv), aV d ha 5 (HHE hv), aV d ha 6 (HRA hv), oV ta tv, aV d ta 1 (HHO tv), aV d ta 2 (HAT tv), aV d ta 3 (HTO tv), aV d ta 4 (HWE tv), aV d ta 5 (HHE tv), aV d ta 6 (HRA tv), (tra, .inr (4, [.ref tba, .int tm])), (tba, .inl (d 0, 16, .inl TB))] ++ (pool (rC d ria RW rs) 8 ++ (pool (pC d PA qa PH) 24 ++ (pool (iC d IH xa) 2 ++ wi)))) : va_W)) (wr9 := ([((ad 1), .inl (d 0, 1247, .inl Ww)), ((ad 3), .inl (d 0, 8, .inl MA)), ((ad 4), .inl (d 0, 8, .inl LA)), ((ad 5), .inl (d 0, 320, .inl IT)), ((ad 6), .inl (d 0, 40, .inl HE)), ((ad 7), .inl (d 0, 7, .inl OR)), ((ad 8), .inl (d 0, 6, .inl BO)), ((ad 9), .inl (d 0, 45, .inl VV)), ((ad 10), .inl (d 2, 2, .inl KP)), ((ad 11), .inl (d 0, 16, .inl TR))] : va_W)) (wm' := MW d ad (Int32.ofNat g) (Int32.ofNat t') gf gs fa fb fn fr Ww TM' MA LA IT HE OR BO VV KP TR) (mX0_feed l D d cs (w0 ++ wi) ln lf dk dn him sa ha ta (Int32.ofNat t) gf (Int32.ofNat g) tra gs TA p1 _ h1) (mX9_feed l (XE D cs w0) XE.ok D d ad (Int32.ofNat g) (Int32.ofNat t) gf gs fa fb fn fr TM p1 _ h2) rfl rfl ?_ (fun q hq => (List.mem_append.mp hq).elim Or.inl (fun hq => Or.inr (List.mem_append_right _ (List.mem_append_right _ (List.mem_append_right _ (List.mem_append_right _ hq)))))) ?_ ?_ ?_
  · refine hp.trans ?_
    refine pcountP (fun f g h1 h2 h3 h4 => ?_)
    simp only [SYS, MW, oV, h1, h2, h3]
    omega
  · refine pcountP (fun f g h1 h2 h3 h4 => ?_)
    simp only [SYS, MW, oV, h1, h2, h3]
    omega
  · intro r u hu ha
    refine ⟨hu, ?_⟩
    refine ⟨gf, gs, fa, fb, fn, fr, Ww, TM', MA, LA, IT, HE, OR, BO, VV, KP, TR, tra, tba, tm, TB, hv, tv, LI, BE, TA', TK, RW, PA, IA, rs, ria, qa, xa, PH, IH, ln, lf, dk, dn, wi, g, t', rfl, ?_, ⟨hT, hP, hI, hRR, hRW, hTT, h3, hGE, hTK, hPA, hPA2, hIA, him⟩⟩
    refine pcountP (fun f g h1 h2 h3 h4 => ?_)
    simp only [SYS, MW, oV, h1, h2, h3]
    omega
  · intro r u hu
    refine ⟨hu, ?_⟩
    refine pcountP (fun f g h1 h2 h3 h4 => ?_)
    simp only [SYS, MW, oV, h1, h2, h3]
    omega
