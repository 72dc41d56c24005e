set_option maxRecDepth 100000
theorem L_set {l : Launch} {D : va_G} {d : Nat → ClassId} {cs : Nat → Nat} {w0 : va_W} {sa ha ta ad : Nat → Nat} {ws wm : va_W} (h : RM d sa ha ta ad w0 ws wm) (p1 p2 p3 : Int32) : LawI l yX0_set (wsW_ yX0_set cX0_set 5 (some .int) [(10, 60, 61, 74)]) yX9_set (ws_ yX9_set cX9_set 5 (some .int)) [.int p1, .int p2, .int p3] D d cs w0 (sa 0) (ad 0) ws wm (RM d sa ha ta ad w0) := by
  obtain ⟨gf, gs, fa, fb, fn, fr, Ww, TM, MA, LA, IT, HE, OR, BO, VV, KP, TR, tra, tba, tm, TB, hv, tv, LI, BE, TA, TK, RW, PA, IA, rs, ria, qa, xa, PH, IH, ln, lf, dk, dn, wi, g, t, rfl, hp, hF⟩ := h
  obtain ⟨hT, hP, hI, hRR, hRW, hTT, hTP, hGE, hTK, hPA, hPA2, hIA, him⟩ := hF
  rcases row_case hRW p1 with h0 | ⟨i, x, ra, hi, rfl, hx, hw⟩
  · obtain ⟨ans, st, h1, h2⟩ := act_set_0 hRR gs p1 p2 p3 h0
    refine law_of (ans := ans) (wi := (w0 ++ wi)) (wr := ([((sa 2), .inl (d 1, 110, .inl TA)), ((sa 3), .inl (d 4, 24, .inr (.inr (.inr (.inr PA))))), ((sa 4), .inl (d 4, 2, .inr (.inr (.inr (.inr IA))))), ((sa 5), .inl (d 0, 6, .inl LI)), ((sa 6), .inl (d 0, 6, .inl BE)), ((sa 7), .inl (d 5, 5, .inr (.inr (.inr (.inr TK))))), oV ha hv, aV d ha 1 (HHO hv), aV d ha 2 (HAT hv), aV d ha 3 (HTO hv), aV d ha 4 (HWE hv), aV d ha 5 (HHE hv), aV d ha 6 (HRA hv), oV ta tv, aV d ta 1 (HHO tv), aV d ta 2 (HAT tv), aV d ta 3 (HTO tv), aV d ta 4 (HWE tv), aV d ta 5 (HHE tv), aV d ta 6 (HRA tv), (tra, .inr (4, [.ref tba, .int tm])), (tba, .inl (d 0, 16, .inl TB))] ++ (pool (rC d ria RW rs) 8 ++ (pool (pC d PA qa PH) 24 ++ (pool (iC d IH xa) 2 ++ wi))) : va_W)) (wr9 := ([((ad 1), .inl (d 0, 1247, .inl Ww)), ((ad 2), .inl (d 0, 110, .inl TM)), ((ad 6), .inl (d 0, 40, .inl HE)), ((ad 7), .inl (d 0, 7, .inl OR)), ((ad 8), .inl (d 0, 6, .inl BO)), ((ad 9), .inl (d 0, 45, .inl VV)), ((ad 10), .inl (d 2, 2, .inl KP)), ((ad 11), .inl (d 0, 16, .inl TR))] : va_W)) (wm' := MW d ad (Int32.ofNat g) (Int32.ofNat t) gf st fa fb fn fr Ww TM MA LA IT HE OR BO VV KP TR) (mX0_set_0 l D d cs (w0 ++ wi) ln lf dk dn him sa ha ta (Int32.ofNat t) gf (Int32.ofNat g) tra gs RW p1 p2 p3 _ h1) (mX9_set l (XE D cs w0) XE.ok D d ad (Int32.ofNat g) (Int32.ofNat t) gf gs fa fb fn fr MA LA IT p1 p2 p3 _ h2) rfl rfl ?_ (fun q hq => (List.mem_append.mp hq).elim Or.inl (fun hq => Or.inr (List.mem_append_right _ (List.mem_append_right _ (List.mem_append_right _ (List.mem_append_right _ hq)))))) ?_ ?_ ?_
    · refine hp.trans ?_
      refine pcountP (fun f g h1 h2 h3 h4 => ?_)
      simp only [SYS, MW, oV, h1, h2, h3]
      omega
    · refine pcountP (fun f g h1 h2 h3 h4 => ?_)
      simp only [SYS, MW, oV, h1, h2, h3]
      omega
    · intro r u hu hap
      refine ⟨hu, ?_⟩
      refine ⟨gf, st, fa, fb, fn, fr, Ww, TM, MA, LA, IT, HE, OR, BO, VV, KP, TR, tra, tba, tm, TB, hv, tv, LI, BE, TA, TK, RW, PA, IA, rs, ria, qa, xa, PH, IH, ln, lf, dk, dn, wi, g, t, rfl, ?_, ⟨hT, hP, hI, hRR, hRW, hTT, hTP, hGE, hTK, hPA, hPA2, hIA, him⟩⟩
      refine pcountP (fun f g h1 h2 h3 h4 => ?_)
      simp only [SYS, MW, oV, h1, h2, h3]
      omega
    · intro r u hu
      refine ⟨hu, ?_⟩
      refine pcountP (fun f g h1 h2 h3 h4 => ?_)
      simp only [SYS, MW, oV, h1, h2, h3]
      omega
  · obtain ⟨n, l2, I⟩ := x
    have e1 := row_out (d := d) (ria := ria) hi hx hw
    dsimp only at e1
    obtain ⟨ans, I', st, IT', h1, h2, h3⟩ := act_set_1 hRR gs p2 p3 hi hx hw
    have e2 := row_in (d := d) (ria := ria) (ria' := ria) (rs := rs) (RW := RW) hi (nr_same (rs := rs) (x := some (n, l2, I'))) hw (fun j hj => ⟨nr_ne hj, rfl, rfl⟩)
    dsimp only at e2
    refine law_of (ans := ans) (wi := (w0 ++ wi)) (wr := ([((sa 2), .inl (d 1, 110, .inl TA)), ((sa 3), .inl (d 4, 24, .inr (.inr (.inr (.inr PA))))), ((sa 4), .inl (d 4, 2, .inr (.inr (.inr (.inr IA))))), ((sa 5), .inl (d 0, 6, .inl LI)), ((sa 6), .inl (d 0, 6, .inl BE)), ((sa 7), .inl (d 5, 5, .inr (.inr (.inr (.inr TK))))), oV ha hv, aV d ha 1 (HHO hv), aV d ha 2 (HAT hv), aV d ha 3 (HTO hv), aV d ha 4 (HWE hv), aV d ha 5 (HHE hv), aV d ha 6 (HRA hv), oV ta tv, aV d ta 1 (HHO tv), aV d ta 2 (HAT tv), aV d ta 3 (HTO tv), aV d ta 4 (HWE tv), aV d ta 5 (HHE tv), aV d ta 6 (HRA tv), (tra, .inr (4, [.ref tba, .int tm])), (tba, .inl (d 0, 16, .inl TB))] ++ (pool (wo (rC d ria RW rs) i) 8 ++ (pool (pC d PA qa PH) 24 ++ (pool (iC d IH xa) 2 ++ wi))) : va_W)) (wr9 := ([((ad 1), .inl (d 0, 1247, .inl Ww)), ((ad 2), .inl (d 0, 110, .inl TM)), ((ad 6), .inl (d 0, 40, .inl HE)), ((ad 7), .inl (d 0, 7, .inl OR)), ((ad 8), .inl (d 0, 6, .inl BO)), ((ad 9), .inl (d 0, 45, .inl VV)), ((ad 10), .inl (d 2, 2, .inl KP)), ((ad 11), .inl (d 0, 16, .inl TR))] : va_W)) (wm' := MW d ad (Int32.ofNat g) (Int32.ofNat t) gf st fa fb fn fr Ww TM MA LA IT' HE OR BO VV KP TR) (mX0_set_1 l D d cs (w0 ++ wi) ln lf dk dn him sa ha ta ra (ria i) n (Int32.ofNat t) gf (Int32.ofNat g) tra gs RW l2 I (Int32.ofNat i) p2 p3 _ h1) (mX9_set l (XE D cs w0) XE.ok D d ad (Int32.ofNat g) (Int32.ofNat t) gf gs fa fb fn fr MA LA IT (Int32.ofNat i) p2 p3 _ h2) rfl rfl ?_ (fun q hq => (List.mem_append.mp hq).elim Or.inl (fun hq => Or.inr (List.mem_append_right _ (List.mem_append_right _ (List.mem_append_right _ (List.mem_append_right _ hq)))))) ?_ ?_ ?_
    · refine hp.trans ?_
      refine pcountP (fun f g h1 h2 h3 h4 => ?_)
      have e1_ := h4 _ _ e1
      simp only [SYS, MW, oV, h1, h2, h3] at e1_ ⊢
      omega
    · refine pcountP (fun f g h1 h2 h3 h4 => ?_)
      simp only [SYS, MW, oV, h1, h2, h3]
      omega
    · intro r u hu hap
      refine ⟨hu, ?_⟩
      refine ⟨gf, st, fa, fb, fn, fr, Ww, TM, MA, LA, IT', HE, OR, BO, VV, KP, TR, tra, tba, tm, TB, hv, tv, LI, BE, TA, TK, RW, PA, IA, (nr rs i (some (n, l2, I'))), ria, qa, xa, PH, IH, ln, lf, dk, dn, wi, g, t, rfl, ?_, ⟨hT, hP, hI, h3, rw_some hRW hw _, hTT, hTP, hGE, hTK, hPA, hPA2, hIA, him⟩⟩
      refine pcountP (fun f g h1 h2 h3 h4 => ?_)
      have e2_ := h4 _ _ e2
      simp only [SYS, MW, oV, h1, h2, h3] at e2_ ⊢
      omega
    · intro r u hu
      refine ⟨hu, ?_⟩
      refine pcountP (fun f g h1 h2 h3 h4 => ?_)
      simp only [SYS, MW, oV, h1, h2, h3]
      omega
theorem L_drop {l : Launch} {D : va_G} {d : Nat → ClassId} {cs : Nat → Nat} {w0 : va_W} {sa ha ta ad : Nat → Nat} {ws wm : va_W} (h : RM d sa ha ta ad w0 ws wm) (p1 : Int32) : LawI l yX0_drop (wsW_ yX0_drop cX0_drop 3 (some .int) [(10, 32, 33, 74)]) yX9_drop (ws_ yX9_drop cX9_drop 3 (some .int)) [.int p1] D d cs w0 (sa 0) (ad 0) ws wm (RM d sa ha ta ad w0) := by
  obtain ⟨gf, gs, fa, fb, fn, fr, Ww, TM, MA, LA, IT, HE, OR, BO, VV, KP, TR, tra, tba, tm, TB, hv, tv, LI, BE, TA, TK, RW, PA, IA, rs, ria, qa, xa, PH, IH, ln, lf, dk, dn, wi, g, t, rfl, hp, hF⟩ := h
  obtain ⟨hT, hP, hI, hRR, hRW, hTT, hTP, hGE, hTK, hPA, hPA2, hIA, him⟩ := hF
  rcases row_case hRW p1 with h0 | ⟨i, x, ra, hi, rfl, hx, hw⟩
  · obtain ⟨ans, st, h1, h2⟩ := act_drop_0 hRR gs p1 h0
    refine law_of (ans := ans) (wi := (w0 ++ wi)) (wr := ([((sa 2), .inl (d 1, 110, .inl TA)), ((sa 3), .inl (d 4, 24, .inr (.inr (.inr (.inr PA))))), ((sa 4), .inl (d 4, 2, .inr (.inr (.inr (.inr IA))))), ((sa 5), .inl (d 0, 6, .inl LI)), ((sa 6), .inl (d 0, 6, .inl BE)), ((sa 7), .inl (d 5, 5, .inr (.inr (.inr (.inr TK))))), oV ha hv, aV d ha 1 (HHO hv), aV d ha 2 (HAT hv), aV d ha 3 (HTO hv), aV d ha 4 (HWE hv), aV d ha 5 (HHE hv), aV d ha 6 (HRA hv), oV ta tv, aV d ta 1 (HHO tv), aV d ta 2 (HAT tv), aV d ta 3 (HTO tv), aV d ta 4 (HWE tv), aV d ta 5 (HHE tv), aV d ta 6 (HRA tv), (tra, .inr (4, [.ref tba, .int tm])), (tba, .inl (d 0, 16, .inl TB))] ++ (pool (rC d ria RW rs) 8 ++ (pool (pC d PA qa PH) 24 ++ (pool (iC d IH xa) 2 ++ wi))) : va_W)) (wr9 := ([((ad 1), .inl (d 0, 1247, .inl Ww)), ((ad 2), .inl (d 0, 110, .inl TM)), ((ad 4), .inl (d 0, 8, .inl LA)), ((ad 5), .inl (d 0, 320, .inl IT)), ((ad 6), .inl (d 0, 40, .inl HE)), ((ad 7), .inl (d 0, 7, .inl OR)), ((ad 8), .inl (d 0, 6, .inl BO)), ((ad 9), .inl (d 0, 45, .inl VV)), ((ad 10), .inl (d 2, 2, .inl KP)), ((ad 11), .inl (d 0, 16, .inl TR))] : va_W)) (wm' := MW d ad (Int32.ofNat g) (Int32.ofNat t) gf st fa fb fn fr Ww TM MA LA IT HE OR BO VV KP TR) (mX0_drop_0 l D d cs (w0 ++ wi) ln lf dk dn him sa ha ta (Int32.ofNat t) gf (Int32.ofNat g) tra gs RW p1 _ h1) (mX9_drop l (XE D cs w0) XE.ok D d ad (Int32.ofNat g) (Int32.ofNat t) gf gs fa fb fn fr MA p1 _ h2) rfl rfl ?_ (fun q hq => (List.mem_append.mp hq).elim Or.inl (fun hq => Or.inr (List.mem_append_right _ (List.mem_append_right _ (List.mem_append_right _ (List.mem_append_right _ hq)))))) ?_ ?_ ?_
    · refine hp.trans ?_
      refine pcountP (fun f g h1 h2 h3 h4 => ?_)
      simp only [SYS, MW, oV, h1, h2, h3]
      omega
    · refine pcountP (fun f g h1 h2 h3 h4 => ?_)
      simp only [SYS, MW, oV, h1, h2, h3]
      omega
    · intro r u hu hap
      refine ⟨hu, ?_⟩
      refine ⟨gf, st, fa, fb, fn, fr, Ww, TM, MA, LA, IT, HE, OR, BO, VV, KP, TR, tra, tba, tm, TB, hv, tv, LI, BE, TA, TK, RW, PA, IA, rs, ria, qa, xa, PH, IH, ln, lf, dk, dn, wi, g, t, rfl, ?_, ⟨hT, hP, hI, hRR, hRW, hTT, hTP, hGE, hTK, hPA, hPA2, hIA, him⟩⟩
      refine pcountP (fun f g h1 h2 h3 h4 => ?_)
      simp only [SYS, MW, oV, h1, h2, h3]
      omega
    · intro r u hu
      refine ⟨hu, ?_⟩
      refine pcountP (fun f g h1 h2 h3 h4 => ?_)
      simp only [SYS, MW, oV, h1, h2, h3]
      omega
  · obtain ⟨n, l2, I⟩ := x
    have e1 := row_out (d := d) (ria := ria) hi hx hw
    dsimp only at e1
    obtain ⟨ans, st, MA', h1, h2, h3⟩ := act_drop_1 hRR gs hi hx hw
    have e2 := row_no (d := d) (ria := ria) (ria' := ria) (rs := rs) (RW := RW) (RW' := va_up RW i none) hi (nr_same (rs := rs) (x := none)) (fun j hj => ⟨nr_ne hj, vu_ne hj, rfl⟩)
    refine law_of (ans := ans) (wi := (w0 ++ wi)) (wr := ([((sa 2), .inl (d 1, 110, .inl TA)), ((sa 3), .inl (d 4, 24, .inr (.inr (.inr (.inr PA))))), ((sa 4), .inl (d 4, 2, .inr (.inr (.inr (.inr IA))))), ((sa 5), .inl (d 0, 6, .inl LI)), ((sa 6), .inl (d 0, 6, .inl BE)), ((sa 7), .inl (d 5, 5, .inr (.inr (.inr (.inr TK))))), oV ha hv, aV d ha 1 (HHO hv), aV d ha 2 (HAT hv), aV d ha 3 (HTO hv), aV d ha 4 (HWE hv), aV d ha 5 (HHE hv), aV d ha 6 (HRA hv), oV ta tv, aV d ta 1 (HHO tv), aV d ta 2 (HAT tv), aV d ta 3 (HTO tv), aV d ta 4 (HWE tv), aV d ta 5 (HHE tv), aV d ta 6 (HRA tv), (tra, .inr (4, [.ref tba, .int tm])), (tba, .inl (d 0, 16, .inl TB))] ++ (pool (wo (rC d ria RW rs) i) 8 ++ (pool (pC d PA qa PH) 24 ++ (pool (iC d IH xa) 2 ++ wi))) : va_W)) (wr9 := ([((ad 1), .inl (d 0, 1247, .inl Ww)), ((ad 2), .inl (d 0, 110, .inl TM)), ((ad 4), .inl (d 0, 8, .inl LA)), ((ad 5), .inl (d 0, 320, .inl IT)), ((ad 6), .inl (d 0, 40, .inl HE)), ((ad 7), .inl (d 0, 7, .inl OR)), ((ad 8), .inl (d 0, 6, .inl BO)), ((ad 9), .inl (d 0, 45, .inl VV)), ((ad 10), .inl (d 2, 2, .inl KP)), ((ad 11), .inl (d 0, 16, .inl TR))] : va_W)) (wm' := MW d ad (Int32.ofNat g) (Int32.ofNat t) gf st fa fb fn fr Ww TM MA' LA IT HE OR BO VV KP TR) (mX0_drop_1 l D d cs (w0 ++ wi) ln lf dk dn him sa ha ta ra (ria i) n (Int32.ofNat t) gf (Int32.ofNat g) tra gs RW l2 I (Int32.ofNat i) _ h1) (mX9_drop l (XE D cs w0) XE.ok D d ad (Int32.ofNat g) (Int32.ofNat t) gf gs fa fb fn fr MA (Int32.ofNat i) _ h2) rfl rfl ?_ (fun q hq => (List.mem_append.mp hq).elim Or.inl (fun hq => Or.inr (List.mem_append_right _ (List.mem_append_right _ (List.mem_append_right _ (List.mem_append_right _ hq)))))) ?_ ?_ ?_
    · refine hp.trans ?_
      refine pcountP (fun f g h1 h2 h3 h4 => ?_)
      have e1_ := h4 _ _ e1
      simp only [SYS, MW, oV, h1, h2, h3] at e1_ ⊢
      omega
    · refine pcountP (fun f g h1 h2 h3 h4 => ?_)
      simp only [SYS, MW, oV, h1, h2, h3]
      omega
    · intro r u hu hap
      refine ⟨hu, ?_⟩
      refine ⟨gf, st, fa, fb, fn, fr, Ww, TM, MA', LA, IT, HE, OR, BO, VV, KP, TR, tra, tba, tm, TB, hv, tv, LI, BE, TA, TK, (va_up RW i none), PA, IA, (nr rs i none), ria, qa, xa, PH, IH, ln, lf, dk, dn, ([(ra, .inr (10, [.int l2, .ref (ria i)])), (ria i, .inl (d 0, n, .inl I))] ++ wi), g, t, rfl, ?_, ⟨hT, hP, hI, h3, rw_no hRW i, hTT, hTP, hGE, hTK, hPA, hPA2, hIA, him.wide (fun q hq => (List.mem_append.mp hq).elim (fun h => List.mem_append_left _ h) (fun h => List.mem_append_right _ (List.mem_append_right _ h)))⟩⟩
      refine pcountP (fun f g h1 h2 h3 h4 => ?_)
      have e2_ := h4 _ _ e2
      simp only [SYS, MW, oV, h1, h2, h3] at e2_ ⊢
      omega
    · intro r u hu
      refine ⟨hu, ?_⟩
      refine pcountP (fun f g h1 h2 h3 h4 => ?_)
      simp only [SYS, MW, oV, h1, h2, h3]
      omega
theorem L_row {l : Launch} {D : va_G} {d : Nat → ClassId} {cs : Nat → Nat} {w0 : va_W} {sa ha ta ad : Nat → Nat} {ws wm : va_W} (h : RM d sa ha ta ad w0 ws wm) (p1 p2 p3 : Int32) : LawI l yX0_row (wsW_ yX0_row cX0_row 5 (some .int) [(28, 61, 62, 74)]) yX9_row (ws_ yX9_row cX9_row 5 (some .int)) [.int p1, .int p2, .int p3] D d cs w0 (sa 0) (ad 0) ws wm (RM d sa ha ta ad w0) := by
  obtain ⟨gf, gs, fa, fb, fn, fr, Ww, TM, MA, LA, IT, HE, OR, BO, VV, KP, TR, tra, tba, tm, TB, hv, tv, LI, BE, TA, TK, RW, PA, IA, rs, ria, qa, xa, PH, IH, ln, lf, dk, dn, wi, g, t, rfl, hp, hF⟩ := h
  obtain ⟨hT, hP, hI, hRR, hRW, hTT, hTP, hGE, hTK, hPA, hPA2, hIA, him⟩ := hF
  obtain ⟨ans, b, st, MA', LA', IT', h1, h2, h3⟩ := act_row hRR gs p1 p2 p3
  cases b
  · refine law_of (ans := ans) (wi := (w0 ++ wi)) (wr := ([((sa 2), .inl (d 1, 110, .inl TA)), ((sa 3), .inl (d 4, 24, .inr (.inr (.inr (.inr PA))))), ((sa 4), .inl (d 4, 2, .inr (.inr (.inr (.inr IA))))), ((sa 5), .inl (d 0, 6, .inl LI)), ((sa 6), .inl (d 0, 6, .inl BE)), ((sa 7), .inl (d 5, 5, .inr (.inr (.inr (.inr TK))))), oV ha hv, aV d ha 1 (HHO hv), aV d ha 2 (HAT hv), aV d ha 3 (HTO hv), aV d ha 4 (HWE hv), aV d ha 5 (HHE hv), aV d ha 6 (HRA hv), oV ta tv, aV d ta 1 (HHO tv), aV d ta 2 (HAT tv), aV d ta 3 (HTO tv), aV d ta 4 (HWE tv), aV d ta 5 (HHE tv), aV d ta 6 (HRA tv), (tra, .inr (4, [.ref tba, .int tm])), (tba, .inl (d 0, 16, .inl TB))] ++ (pool (rC d ria RW rs) 8 ++ (pool (pC d PA qa PH) 24 ++ (pool (iC d IH xa) 2 ++ wi))) : va_W)) (wr9 := ([((ad 1), .inl (d 0, 1247, .inl Ww)), ((ad 2), .inl (d 0, 110, .inl TM)), ((ad 6), .inl (d 0, 40, .inl HE)), ((ad 7), .inl (d 0, 7, .inl OR)), ((ad 8), .inl (d 0, 6, .inl BO)), ((ad 9), .inl (d 0, 45, .inl VV)), ((ad 10), .inl (d 2, 2, .inl KP)), ((ad 11), .inl (d 0, 16, .inl TR))] : va_W)) (wm' := MW d ad (Int32.ofNat g) (Int32.ofNat t) gf st fa fb fn fr Ww TM MA' LA' IT' HE OR BO VV KP TR) (mX0_row l D d cs (w0 ++ wi) ln lf dk dn him sa ha ta (Int32.ofNat t) gf (Int32.ofNat g) tra gs RW p1 p2 p3 _ h1) (mX9_row l (XE D cs w0) XE.ok D d ad (Int32.ofNat g) (Int32.ofNat t) gf gs fa fb fn fr MA LA IT p1 p2 p3 _ h2) rfl rfl ?_ (fun q hq => (List.mem_append.mp hq).elim Or.inl (fun hq => Or.inr (List.mem_append_right _ (List.mem_append_right _ (List.mem_append_right _ (List.mem_append_right _ hq)))))) ?_ ?_ ?_
    · refine hp.trans ?_
      refine pcountP (fun f g h1 h2 h3 h4 => ?_)
      simp only [SYS, MW, oV, h1, h2, h3]
      omega
    · refine pcountP (fun f g h1 h2 h3 h4 => ?_)
      simp only [SYS, MW, oV, h1, h2, h3]
      omega
    · intro r u hu hap
      refine ⟨hu, ?_⟩
      refine ⟨gf, st, fa, fb, fn, fr, Ww, TM, MA', LA', IT', HE, OR, BO, VV, KP, TR, tra, tba, tm, TB, hv, tv, LI, BE, TA, TK, RW, PA, IA, rs, ria, qa, xa, PH, IH, ln, lf, dk, dn, wi, g, t, rfl, ?_, ⟨hT, hP, hI, h3, hRW, hTT, hTP, hGE, hTK, hPA, hPA2, hIA, him⟩⟩
      refine pcountP (fun f g h1 h2 h3 h4 => ?_)
      simp only [SYS, MW, oV, h1, h2, h3]
      omega
    · intro r u hu
      refine ⟨hu, ?_⟩
      refine pcountP (fun f g h1 h2 h3 h4 => ?_)
      simp only [SYS, MW, oV, h1, h2, h3]
      omega
  · by_cases hi : p1.toNatClampNeg < 8
    · rcases hRW p1.toNatClampNeg hi with ⟨hx, hw⟩ | ⟨x, ra, hx, hw⟩
      · have e1 := row_no (d := d) (ria := ria) (ria' := ria) (rs := rs) (RW := RW) hi hx (fun j hj => ⟨rfl, rfl, rfl⟩)
        refine law_of (ans := ans) (wi := (w0 ++ wi)) (wr := ([((sa 2), .inl (d 1, 110, .inl TA)), ((sa 3), .inl (d 4, 24, .inr (.inr (.inr (.inr PA))))), ((sa 4), .inl (d 4, 2, .inr (.inr (.inr (.inr IA))))), ((sa 5), .inl (d 0, 6, .inl LI)), ((sa 6), .inl (d 0, 6, .inl BE)), ((sa 7), .inl (d 5, 5, .inr (.inr (.inr (.inr TK))))), oV ha hv, aV d ha 1 (HHO hv), aV d ha 2 (HAT hv), aV d ha 3 (HTO hv), aV d ha 4 (HWE hv), aV d ha 5 (HHE hv), aV d ha 6 (HRA hv), oV ta tv, aV d ta 1 (HHO tv), aV d ta 2 (HAT tv), aV d ta 3 (HTO tv), aV d ta 4 (HWE tv), aV d ta 5 (HHE tv), aV d ta 6 (HRA tv), (tra, .inr (4, [.ref tba, .int tm])), (tba, .inl (d 0, 16, .inl TB))] ++ (pool (rC d ria RW rs) 8 ++ (pool (pC d PA qa PH) 24 ++ (pool (iC d IH xa) 2 ++ wi))) : va_W)) (wr9 := ([((ad 1), .inl (d 0, 1247, .inl Ww)), ((ad 2), .inl (d 0, 110, .inl TM)), ((ad 6), .inl (d 0, 40, .inl HE)), ((ad 7), .inl (d 0, 7, .inl OR)), ((ad 8), .inl (d 0, 6, .inl BO)), ((ad 9), .inl (d 0, 45, .inl VV)), ((ad 10), .inl (d 2, 2, .inl KP)), ((ad 11), .inl (d 0, 16, .inl TR))] : va_W)) (wm' := MW d ad (Int32.ofNat g) (Int32.ofNat t) gf st fa fb fn fr Ww TM MA' LA' IT' HE OR BO VV KP TR) (mX0_row l D d cs (w0 ++ wi) ln lf dk dn him sa ha ta (Int32.ofNat t) gf (Int32.ofNat g) tra gs RW p1 p2 p3 _ h1) (mX9_row l (XE D cs w0) XE.ok D d ad (Int32.ofNat g) (Int32.ofNat t) gf gs fa fb fn fr MA LA IT p1 p2 p3 _ h2) rfl rfl ?_ (fun q hq => (List.mem_append.mp hq).elim Or.inl (fun hq => Or.inr (List.mem_append_right _ (List.mem_append_right _ (List.mem_append_right _ (List.mem_append_right _ hq)))))) ?_ ?_ ?_
        · refine hp.trans ?_
          refine pcountP (fun f g h1 h2 h3 h4 => ?_)
          simp only [SYS, MW, oV, h1, h2, h3]
          omega
        · refine pcountP (fun f g h1 h2 h3 h4 => ?_)
          simp only [SYS, MW, oV, h1, h2, h3]
          omega
        · intro r u hu hap
          have e2 := row_in (d := d) (ria := ria) (ria' := fun j => if j = p1.toNatClampNeg then u.2 else ria j) (rs := rs) (RW := RW) (RW' := va_up RW p1.toNatClampNeg (some u.1)) hi (nr_same (rs := rs) (x := some (p3.toNatClampNeg, p2, fun _ => 0))) vu_same (fun j hj => ⟨nr_ne hj, vu_ne hj, if_neg hj⟩)
          rw [show (if p1.toNatClampNeg = p1.toNatClampNeg then u.2 else ria p1.toNatClampNeg) = u.2 from if_pos rfl] at e2
          dsimp only at e2
          refine ⟨hu, ?_⟩
          refine ⟨gf, st, fa, fb, fn, fr, Ww, TM, MA', LA', IT', HE, OR, BO, VV, KP, TR, tra, tba, tm, TB, hv, tv, LI, BE, TA, TK, (va_up RW p1.toNatClampNeg (some u.1)), PA, IA, (nr rs p1.toNatClampNeg (some (p3.toNatClampNeg, p2, fun _ => 0))), (fun j => if j = p1.toNatClampNeg then u.2 else ria j), qa, xa, PH, IH, ln, lf, dk, dn, wi, g, t, rfl, ?_, ⟨hT, hP, hI, h3, rw_new hRW _ _ _, hTT, hTP, hGE, hTK, hPA, hPA2, hIA, him⟩⟩
          refine pcountP (fun f g h1 h2 h3 h4 => ?_)
          have e1_ := h4 _ _ e1
          have e2_ := h4 _ _ e2
          simp only [SYS, MW, oV, h1, h2, h3] at e1_ e2_ ⊢
          omega
        · intro r u hu
          refine ⟨hu, ?_⟩
          refine pcountP (fun f g h1 h2 h3 h4 => ?_)
          simp only [SYS, MW, oV, h1, h2, h3]
          omega
      · have e1 := row_out (d := d) (ria := ria) hi hx hw
        refine law_of (ans := ans) (wi := (w0 ++ wi)) (wr := ([((sa 2), .inl (d 1, 110, .inl TA)), ((sa 3), .inl (d 4, 24, .inr (.inr (.inr (.inr PA))))), ((sa 4), .inl (d 4, 2, .inr (.inr (.inr (.inr IA))))), ((sa 5), .inl (d 0, 6, .inl LI)), ((sa 6), .inl (d 0, 6, .inl BE)), ((sa 7), .inl (d 5, 5, .inr (.inr (.inr (.inr TK))))), oV ha hv, aV d ha 1 (HHO hv), aV d ha 2 (HAT hv), aV d ha 3 (HTO hv), aV d ha 4 (HWE hv), aV d ha 5 (HHE hv), aV d ha 6 (HRA hv), oV ta tv, aV d ta 1 (HHO tv), aV d ta 2 (HAT tv), aV d ta 3 (HTO tv), aV d ta 4 (HWE tv), aV d ta 5 (HHE tv), aV d ta 6 (HRA tv), (tra, .inr (4, [.ref tba, .int tm])), (tba, .inl (d 0, 16, .inl TB))] ++ (pool (rC d ria RW rs) 8 ++ (pool (pC d PA qa PH) 24 ++ (pool (iC d IH xa) 2 ++ wi))) : va_W)) (wr9 := ([((ad 1), .inl (d 0, 1247, .inl Ww)), ((ad 2), .inl (d 0, 110, .inl TM)), ((ad 6), .inl (d 0, 40, .inl HE)), ((ad 7), .inl (d 0, 7, .inl OR)), ((ad 8), .inl (d 0, 6, .inl BO)), ((ad 9), .inl (d 0, 45, .inl VV)), ((ad 10), .inl (d 2, 2, .inl KP)), ((ad 11), .inl (d 0, 16, .inl TR))] : va_W)) (wm' := MW d ad (Int32.ofNat g) (Int32.ofNat t) gf st fa fb fn fr Ww TM MA' LA' IT' HE OR BO VV KP TR) (mX0_row l D d cs (w0 ++ wi) ln lf dk dn him sa ha ta (Int32.ofNat t) gf (Int32.ofNat g) tra gs RW p1 p2 p3 _ h1) (mX9_row l (XE D cs w0) XE.ok D d ad (Int32.ofNat g) (Int32.ofNat t) gf gs fa fb fn fr MA LA IT p1 p2 p3 _ h2) rfl rfl ?_ (fun q hq => (List.mem_append.mp hq).elim Or.inl (fun hq => Or.inr (List.mem_append_right _ (List.mem_append_right _ (List.mem_append_right _ (List.mem_append_right _ hq)))))) ?_ ?_ ?_
        · refine hp.trans ?_
          refine pcountP (fun f g h1 h2 h3 h4 => ?_)
          simp only [SYS, MW, oV, h1, h2, h3]
          omega
        · refine pcountP (fun f g h1 h2 h3 h4 => ?_)
          simp only [SYS, MW, oV, h1, h2, h3]
          omega
        · intro r u hu hap
          have e2 := row_in (d := d) (ria := ria) (ria' := fun j => if j = p1.toNatClampNeg then u.2 else ria j) (rs := rs) (RW := RW) (RW' := va_up RW p1.toNatClampNeg (some u.1)) hi (nr_same (rs := rs) (x := some (p3.toNatClampNeg, p2, fun _ => 0))) vu_same (fun j hj => ⟨nr_ne hj, vu_ne hj, if_neg hj⟩)
          rw [show (if p1.toNatClampNeg = p1.toNatClampNeg then u.2 else ria p1.toNatClampNeg) = u.2 from if_pos rfl] at e2
          dsimp only at e2
          refine ⟨hu, ?_⟩
          refine ⟨gf, st, fa, fb, fn, fr, Ww, TM, MA', LA', IT', HE, OR, BO, VV, KP, TR, tra, tba, tm, TB, hv, tv, LI, BE, TA, TK, (va_up RW p1.toNatClampNeg (some u.1)), PA, IA, (nr rs p1.toNatClampNeg (some (p3.toNatClampNeg, p2, fun _ => 0))), (fun j => if j = p1.toNatClampNeg then u.2 else ria j), qa, xa, PH, IH, ln, lf, dk, dn, ([(ra, .inr (10, [.int x.2.1, .ref (ria p1.toNatClampNeg)])), (ria p1.toNatClampNeg, .inl (d 0, x.1, .inl x.2.2))] ++ wi), g, t, rfl, ?_, ⟨hT, hP, hI, h3, rw_new hRW _ _ _, hTT, hTP, hGE, hTK, hPA, hPA2, hIA, him.wide (fun q hq => (List.mem_append.mp hq).elim (fun h => List.mem_append_left _ h) (fun h => List.mem_append_right _ (List.mem_append_right _ h)))⟩⟩
          refine pcountP (fun f g h1 h2 h3 h4 => ?_)
          have e1_ := h4 _ _ e1
          have e2_ := h4 _ _ e2
          simp only [SYS, MW, oV, h1, h2, h3] at e1_ e2_ ⊢
          omega
        · intro r u hu
          refine ⟨hu, ?_⟩
          refine pcountP (fun f g h1 h2 h3 h4 => ?_)
          simp only [SYS, MW, oV, h1, h2, h3]
          omega
    · refine law_of (ans := ans) (wi := (w0 ++ wi)) (wr := ([((sa 2), .inl (d 1, 110, .inl TA)), ((sa 3), .inl (d 4, 24, .inr (.inr (.inr (.inr PA))))), ((sa 4), .inl (d 4, 2, .inr (.inr (.inr (.inr IA))))), ((sa 5), .inl (d 0, 6, .inl LI)), ((sa 6), .inl (d 0, 6, .inl BE)), ((sa 7), .inl (d 5, 5, .inr (.inr (.inr (.inr TK))))), oV ha hv, aV d ha 1 (HHO hv), aV d ha 2 (HAT hv), aV d ha 3 (HTO hv), aV d ha 4 (HWE hv), aV d ha 5 (HHE hv), aV d ha 6 (HRA hv), oV ta tv, aV d ta 1 (HHO tv), aV d ta 2 (HAT tv), aV d ta 3 (HTO tv), aV d ta 4 (HWE tv), aV d ta 5 (HHE tv), aV d ta 6 (HRA tv), (tra, .inr (4, [.ref tba, .int tm])), (tba, .inl (d 0, 16, .inl TB))] ++ (pool (rC d ria RW rs) 8 ++ (pool (pC d PA qa PH) 24 ++ (pool (iC d IH xa) 2 ++ wi))) : va_W)) (wr9 := ([((ad 1), .inl (d 0, 1247, .inl Ww)), ((ad 2), .inl (d 0, 110, .inl TM)), ((ad 6), .inl (d 0, 40, .inl HE)), ((ad 7), .inl (d 0, 7, .inl OR)), ((ad 8), .inl (d 0, 6, .inl BO)), ((ad 9), .inl (d 0, 45, .inl VV)), ((ad 10), .inl (d 2, 2, .inl KP)), ((ad 11), .inl (d 0, 16, .inl TR))] : va_W)) (wm' := MW d ad (Int32.ofNat g) (Int32.ofNat t) gf st fa fb fn fr Ww TM MA' LA' IT' HE OR BO VV KP TR) (mX0_row l D d cs (w0 ++ wi) ln lf dk dn him sa ha ta (Int32.ofNat t) gf (Int32.ofNat g) tra gs RW p1 p2 p3 _ h1) (mX9_row l (XE D cs w0) XE.ok D d ad (Int32.ofNat g) (Int32.ofNat t) gf gs fa fb fn fr MA LA IT p1 p2 p3 _ h2) rfl rfl ?_ (fun q hq => (List.mem_append.mp hq).elim Or.inl (fun hq => Or.inr (List.mem_append_right _ (List.mem_append_right _ (List.mem_append_right _ (List.mem_append_right _ hq)))))) ?_ ?_ ?_
      · refine hp.trans ?_
        refine pcountP (fun f g h1 h2 h3 h4 => ?_)
        simp only [SYS, MW, oV, h1, h2, h3]
        omega
      · refine pcountP (fun f g h1 h2 h3 h4 => ?_)
        simp only [SYS, MW, oV, h1, h2, h3]
        omega
      · intro r u hu hap
        have e3 : (pool (rC d (fun j => if j = p1.toNatClampNeg then u.2 else ria j) (va_up RW p1.toNatClampNeg (some u.1)) (nr rs p1.toNatClampNeg (some (p3.toNatClampNeg, p2, fun _ => 0)))) 8).Perm (pool (rC d ria RW rs) 8) := by
          rw [pool_congr (g := rC d ria RW rs) (fun j hj => rC_congr (nr_ne (by omega)) (vu_ne (by omega)) (if_neg (by omega)))]
        refine ⟨hu, ?_⟩
        refine ⟨gf, st, fa, fb, fn, fr, Ww, TM, MA', LA', IT', HE, OR, BO, VV, KP, TR, tra, tba, tm, TB, hv, tv, LI, BE, TA, TK, (va_up RW p1.toNatClampNeg (some u.1)), PA, IA, (nr rs p1.toNatClampNeg (some (p3.toNatClampNeg, p2, fun _ => 0))), (fun j => if j = p1.toNatClampNeg then u.2 else ria j), qa, xa, PH, IH, ln, lf, dk, dn, ([(u.1, .inr (10, [.int p2, .ref u.2])), (u.2, .inl (d 0, p3.toNatClampNeg, .inl (fun _ => 0)))] ++ wi), g, t, rfl, ?_, ⟨hT, hP, hI, h3, rw_new hRW _ _ _, hTT, hTP, hGE, hTK, hPA, hPA2, hIA, him.wide (fun q hq => (List.mem_append.mp hq).elim (fun h => List.mem_append_left _ h) (fun h => List.mem_append_right _ (List.mem_append_right _ h)))⟩⟩
        refine pcountP (fun f g h1 h2 h3 h4 => ?_)
        have e3_ := h4 _ _ e3
        simp only [SYS, MW, oV, h1, h2, h3] at e3_ ⊢
        omega
      · intro r u hu
        refine ⟨hu, ?_⟩
        refine pcountP (fun f g h1 h2 h3 h4 => ?_)
        simp only [SYS, MW, oV, h1, h2, h3]
        omega
theorem L_who {l : Launch} {D : va_G} {d : Nat → ClassId} {cs : Nat → Nat} {w0 : va_W} {sa ha ta ad : Nat → Nat} {ws wm : va_W} (h : RM d sa ha ta ad w0 ws wm) (p1 p2 p3 p4 p5 : Int32) : LawI l yX0_who (wsW_ yX0_who cX0_who 7 (some .int) [(38, 80, 81, 74)]) yX9_who (ws_ yX9_who cX9_who 12 (some .int)) [.int p1, .int p2, .int p3, .int p4, .int p5] D d cs w0 (sa 0) (ad 0) ws wm (RM d sa ha ta ad w0) := by
  obtain ⟨gf, gs, fa, fb, fn, fr, Ww, TM, MA, LA, IT, HE, OR, BO, VV, KP, TR, tra, tba, tm, TB, hv, tv, LI, BE, TA, TK, RW, PA, IA, rs, ria, qa, xa, PH, IH, ln, lf, dk, dn, wi, g, t, rfl, hp, hF⟩ := h
  obtain ⟨hT, hP, hI, hRR, hRW, hTT, hTP, hGE, hTK, hPA, hPA2, hIA, him⟩ := hF
  rcases row_case hRW p3 with h0 | ⟨i, x, ra, hi, rfl, hx, hw⟩
  · obtain ⟨ans, st, h1, h2⟩ := act_who_0 hT hRR gs p1 p2 p3 p4 p5 h0
    refine law_of (ans := ans) (wi := (w0 ++ wi)) (wr := ([((sa 2), .inl (d 1, 110, .inl TA)), ((sa 3), .inl (d 4, 24, .inr (.inr (.inr (.inr PA))))), ((sa 4), .inl (d 4, 2, .inr (.inr (.inr (.inr IA))))), (tra, .inr (4, [.ref tba, .int tm])), (tba, .inl (d 0, 16, .inl TB))] ++ (pool (rC d ria RW rs) 8 ++ (pool (pC d PA qa PH) 24 ++ (pool (iC d IH xa) 2 ++ wi))) : va_W)) (wr9 := ([((ad 2), .inl (d 0, 110, .inl TM)), ((ad 4), .inl (d 0, 8, .inl LA)), ((ad 6), .inl (d 0, 40, .inl HE)), ((ad 7), .inl (d 0, 7, .inl OR)), ((ad 8), .inl (d 0, 6, .inl BO)), ((ad 9), .inl (d 0, 45, .inl VV)), ((ad 10), .inl (d 2, 2, .inl KP)), ((ad 11), .inl (d 0, 16, .inl TR))] : va_W)) (wm' := MW d ad (Int32.ofNat g) (Int32.ofNat t) gf st fa fb fn fr Ww TM MA LA IT HE OR BO VV KP TR) (mX0_who_0 l D d cs (w0 ++ wi) ln lf dk dn him ha ta sa hv tv (Int32.ofNat t) gf (Int32.ofNat g) tra gs RW BE LI TK p1 p2 p3 p4 p5 _ h1) (mX9_who l (XE D cs w0) XE.ok D d ad (Int32.ofNat g) (Int32.ofNat t) gf gs fa fb fn fr Ww MA IT p1 p2 p3 p4 p5 _ h2) rfl rfl ?_ (fun q hq => (List.mem_append.mp hq).elim Or.inl (fun hq => Or.inr (List.mem_append_right _ (List.mem_append_right _ (List.mem_append_right _ (List.mem_append_right _ hq)))))) ?_ ?_ ?_
    · refine hp.trans ?_
      refine pcountP (fun f g h1 h2 h3 h4 => ?_)
      simp only [SYS, MW, oV, h1, h2, h3]
      omega
    · refine pcountP (fun f g h1 h2 h3 h4 => ?_)
      simp only [SYS, MW, oV, h1, h2, h3]
      omega
    · intro r u hu hap
      refine ⟨hu, ?_⟩
      refine ⟨gf, st, fa, fb, fn, fr, Ww, TM, MA, LA, IT, HE, OR, BO, VV, KP, TR, tra, tba, tm, TB, hv, tv, LI, BE, TA, TK, RW, PA, IA, rs, ria, qa, xa, PH, IH, ln, lf, dk, dn, wi, g, t, rfl, ?_, ⟨hT, hP, hI, hRR, hRW, hTT, hTP, hGE, hTK, hPA, hPA2, hIA, him⟩⟩
      refine pcountP (fun f g h1 h2 h3 h4 => ?_)
      simp only [SYS, MW, oV, h1, h2, h3]
      omega
    · intro r u hu
      refine ⟨hu, ?_⟩
      refine pcountP (fun f g h1 h2 h3 h4 => ?_)
      simp only [SYS, MW, oV, h1, h2, h3]
      omega
  · obtain ⟨n, l2, I⟩ := x
    have e1 := row_out (d := d) (ria := ria) hi hx hw
    dsimp only at e1
    obtain ⟨ans, st, tv', w', h1, h2, h3⟩ := act_who_1 hT hRR hTK tv gs p1 p2 p4 p5 hi hx hw
    have hF2 : FA d tm TB TA TK RW PA IA hv rs qa xa PH IH ln lf dk dn (w0 ++ wi) g t fr w' TM MA LA IT KP TR := (show FA d tm TB TA TK RW PA IA hv rs qa xa PH IH ln lf dk dn (w0 ++ wi) g t fr Ww TM MA LA IT KP TR from ⟨hT, hP, hI, hRR, hRW, hTT, hTP, hGE, hTK, hPA, hPA2, hIA, him⟩).tried h3
    refine law_of (ans := ans) (wi := (w0 ++ wi)) (wr := ([((sa 2), .inl (d 1, 110, .inl TA)), ((sa 3), .inl (d 4, 24, .inr (.inr (.inr (.inr PA))))), ((sa 4), .inl (d 4, 2, .inr (.inr (.inr (.inr IA))))), (tra, .inr (4, [.ref tba, .int tm])), (tba, .inl (d 0, 16, .inl TB))] ++ (pool (wo (rC d ria RW rs) i) 8 ++ (pool (pC d PA qa PH) 24 ++ (pool (iC d IH xa) 2 ++ wi))) : va_W)) (wr9 := ([((ad 2), .inl (d 0, 110, .inl TM)), ((ad 4), .inl (d 0, 8, .inl LA)), ((ad 6), .inl (d 0, 40, .inl HE)), ((ad 7), .inl (d 0, 7, .inl OR)), ((ad 8), .inl (d 0, 6, .inl BO)), ((ad 9), .inl (d 0, 45, .inl VV)), ((ad 10), .inl (d 2, 2, .inl KP)), ((ad 11), .inl (d 0, 16, .inl TR))] : va_W)) (wm' := MW d ad (Int32.ofNat g) (Int32.ofNat t) gf st fa fb fn fr w' TM MA LA IT HE OR BO VV KP TR) (mX0_who_1 l D d cs (w0 ++ wi) ln lf dk dn him ha ta sa ra (ria i) n hv tv (Int32.ofNat t) gf (Int32.ofNat g) tra gs RW BE LI TK l2 I p1 p2 (Int32.ofNat i) p4 p5 _ h1) (mX9_who l (XE D cs w0) XE.ok D d ad (Int32.ofNat g) (Int32.ofNat t) gf gs fa fb fn fr Ww MA IT p1 p2 (Int32.ofNat i) p4 p5 _ h2) rfl rfl ?_ (fun q hq => (List.mem_append.mp hq).elim Or.inl (fun hq => Or.inr (List.mem_append_right _ (List.mem_append_right _ (List.mem_append_right _ (List.mem_append_right _ hq)))))) ?_ ?_ ?_
    · refine hp.trans ?_
      refine pcountP (fun f g h1 h2 h3 h4 => ?_)
      have e1_ := h4 _ _ e1
      simp only [SYS, MW, oV, h1, h2, h3] at e1_ ⊢
      omega
    · refine pcountP (fun f g h1 h2 h3 h4 => ?_)
      simp only [SYS, MW, oV, h1, h2, h3]
      omega
    · intro r u hu hap
      refine ⟨hu, ?_⟩
      refine ⟨gf, st, fa, fb, fn, fr, w', TM, MA, LA, IT, HE, OR, BO, VV, KP, TR, tra, tba, tm, TB, hv, tv', LI, BE, TA, TK, RW, PA, IA, rs, ria, qa, xa, PH, IH, ln, lf, dk, dn, wi, g, t, rfl, ?_, hF2⟩
      refine pcountP (fun f g h1 h2 h3 h4 => ?_)
      have e1_ := h4 _ _ e1
      simp only [SYS, MW, oV, h1, h2, h3] at e1_ ⊢
      omega
    · intro r u hu
      refine ⟨hu, ?_⟩
      refine pcountP (fun f g h1 h2 h3 h4 => ?_)
      simp only [SYS, MW, oV, h1, h2, h3]
      omega
theorem L_as {l : Launch} {D : va_G} {d : Nat → ClassId} {cs : Nat → Nat} {w0 : va_W} {sa ha ta ad : Nat → Nat} {ws wm : va_W} (hfl : l.stackTraces = false) (h : RM d sa ha ta ad w0 ws wm) (p1 p2 : Int32) : LawI l yX0_as (wsW_ yX0_as cX0_as 5 (some .int) [(40, 111, 112, 394), (23, 111, 123, 74), (112, 123, 123, 74)]) yX9_as (ws_ yX9_as cX9_as 3 (some .int)) [.int p1, .int p2] D d cs w0 (sa 0) (ad 0) ws wm (RM d sa ha ta ad w0) := by
  obtain ⟨gf, gs, fa, fb, fn, fr, Ww, TM, MA, LA, IT, HE, OR, BO, VV, KP, TR, tra, tba, tm, TB, hv, tv, LI, BE, TA, TK, RW, PA, IA, rs, ria, qa, xa, PH, IH, ln, lf, dk, dn, wi, g, t, rfl, hp, hF⟩ := h
  obtain ⟨hT, hP, hI, hRR, hRW, hTT, hTP, hGE, hTK, hPA, hPA2, hIA, him⟩ := hF
  obtain ⟨ans, st, h1, h2⟩ := act_as hT hGE.gd gs p1 p2
  refine law_ofE (ans := ans) (wi := (w0 ++ wi)) (wr := ([((sa 1), .inl (d 3, 8, .inr (.inr (.inr (.inr RW))))), ((sa 2), .inl (d 1, 110, .inl TA)), ((sa 3), .inl (d 4, 24, .inr (.inr (.inr (.inr PA))))), ((sa 4), .inl (d 4, 2, .inr (.inr (.inr (.inr IA))))), ((sa 5), .inl (d 0, 6, .inl LI)), ((sa 6), .inl (d 0, 6, .inl BE)), ((sa 7), .inl (d 5, 5, .inr (.inr (.inr (.inr TK))))), oV ta tv, aV d ta 1 (HHO tv), aV d ta 2 (HAT tv), aV d ta 3 (HTO tv), aV d ta 4 (HWE tv), aV d ta 5 (HHE tv), aV d ta 6 (HRA tv), (tra, .inr (4, [.ref tba, .int tm])), (tba, .inl (d 0, 16, .inl TB))] ++ (pool (rC d ria RW rs) 8 ++ (pool (pC d PA qa PH) 24 ++ (pool (iC d IH xa) 2 ++ wi))) : va_W)) (wr9 := ([((ad 2), .inl (d 0, 110, .inl TM)), ((ad 3), .inl (d 0, 8, .inl MA)), ((ad 4), .inl (d 0, 8, .inl LA)), ((ad 5), .inl (d 0, 320, .inl IT)), ((ad 6), .inl (d 0, 40, .inl HE)), ((ad 7), .inl (d 0, 7, .inl OR)), ((ad 8), .inl (d 0, 6, .inl BO)), ((ad 9), .inl (d 0, 45, .inl VV)), ((ad 10), .inl (d 2, 2, .inl KP)), ((ad 11), .inl (d 0, 16, .inl TR))] : va_W)) (wm' := MW d ad (Int32.ofNat g) (Int32.ofNat t) gf st fa fb fn fr Ww TM MA LA IT HE OR BO VV KP TR) (mX0_as l D d cs (w0 ++ wi) ln lf dk dn him ha sa ta hv (Int32.ofNat t) gf (Int32.ofNat g) tra gs p1 p2 hfl _ h1) (mX9_as l (XE D cs w0) XE.ok D d ad (Int32.ofNat g) (Int32.ofNat t) gf gs fa fb fn fr Ww p1 p2 _ h2) rfl rfl ?_ (fun q hq => (List.mem_append.mp hq).elim Or.inl (fun hq => Or.inr (List.mem_append_right _ (List.mem_append_right _ (List.mem_append_right _ (List.mem_append_right _ hq)))))) ?_ ?_ ?_
  · refine hp.trans ?_
    refine pcountP (fun f g h1 h2 h3 h4 => ?_)
    simp only [SYS, MW, oV, h1, h2, h3]
    omega
  · refine pcountP (fun f g h1 h2 h3 h4 => ?_)
    simp only [SYS, MW, oV, h1, h2, h3]
    omega
  · intro r u hu hap
    refine ⟨hu, ?_⟩
    refine ⟨gf, st, fa, fb, fn, fr, Ww, TM, MA, LA, IT, HE, OR, BO, VV, KP, TR, tra, tba, tm, TB, hv, tv, LI, BE, TA, TK, RW, PA, IA, rs, ria, qa, xa, PH, IH, ln, lf, dk, dn, wi, g, t, rfl, ?_, ⟨hT, hP, hI, hRR, hRW, hTT, hTP, hGE, hTK, hPA, hPA2, hIA, him⟩⟩
    refine pcountP (fun f g h1 h2 h3 h4 => ?_)
    simp only [SYS, MW, oV, h1, h2, h3]
    omega
  · intro r u hu
    refine ⟨hu, ?_⟩
    refine pcountP (fun f g h1 h2 h3 h4 => ?_)
    simp only [SYS, MW, oV, h1, h2, h3]
    omega
theorem L_copy {l : Launch} {D : va_G} {d : Nat → ClassId} {cs : Nat → Nat} {w0 : va_W} {sa ha ta ad : Nat → Nat} {ws wm : va_W} (hfl : l.stackTraces = false) (h : RM d sa ha ta ad w0 ws wm) (p1 p2 p3 p4 p5 : Int32) : LawI l yX0_copy (wsW_ yX0_copy cX0_copy 9 (some .int) [(53, 71, 74, 131), (17, 91, 92, 74)]) yX9_copy (ws_ yX9_copy cX9_copy 7 (some .int)) [.int p1, .int p2, .int p3, .int p4, .int p5] D d cs w0 (sa 0) (ad 0) ws wm (RM d sa ha ta ad w0) := by
  obtain ⟨gf, gs, fa, fb, fn, fr, Ww, TM, MA, LA, IT, HE, OR, BO, VV, KP, TR, tra, tba, tm, TB, hv, tv, LI, BE, TA, TK, RW, PA, IA, rs, ria, qa, xa, PH, IH, ln, lf, dk, dn, wi, g, t, rfl, hp, hF⟩ := h
  obtain ⟨hT, hP, hI, hRR, hRW, hTT, hTP, hGE, hTK, hPA, hPA2, hIA, him⟩ := hF
  rcases row_case hRW p1 with h0 | ⟨i, x, ra, hi, rfl, hx, hw⟩
  · obtain ⟨ans, st, h1, h2⟩ := act_copy_0 (RW := RW) (HE := HE) hRR gs p1 p2 p3 p4 p5 (fun a _ => Or.inl (h0 a))
    refine law_ofE (ans := ans) (wi := (w0 ++ wi)) (wr := ([((sa 2), .inl (d 1, 110, .inl TA)), ((sa 3), .inl (d 4, 24, .inr (.inr (.inr (.inr PA))))), ((sa 4), .inl (d 4, 2, .inr (.inr (.inr (.inr IA))))), ((sa 5), .inl (d 0, 6, .inl LI)), ((sa 6), .inl (d 0, 6, .inl BE)), ((sa 7), .inl (d 5, 5, .inr (.inr (.inr (.inr TK))))), oV ha hv, aV d ha 1 (HHO hv), aV d ha 2 (HAT hv), aV d ha 3 (HTO hv), aV d ha 4 (HWE hv), aV d ha 5 (HHE hv), aV d ha 6 (HRA hv), oV ta tv, aV d ta 1 (HHO tv), aV d ta 2 (HAT tv), aV d ta 3 (HTO tv), aV d ta 4 (HWE tv), aV d ta 5 (HHE tv), aV d ta 6 (HRA tv), (tra, .inr (4, [.ref tba, .int tm])), (tba, .inl (d 0, 16, .inl TB))] ++ (pool (rC d ria RW rs) 8 ++ (pool (pC d PA qa PH) 24 ++ (pool (iC d IH xa) 2 ++ wi))) : va_W)) (wr9 := ([((ad 1), .inl (d 0, 1247, .inl Ww)), ((ad 2), .inl (d 0, 110, .inl TM)), ((ad 7), .inl (d 0, 7, .inl OR)), ((ad 8), .inl (d 0, 6, .inl BO)), ((ad 9), .inl (d 0, 45, .inl VV)), ((ad 10), .inl (d 2, 2, .inl KP)), ((ad 11), .inl (d 0, 16, .inl TR))] : va_W)) (wm' := MW d ad (Int32.ofNat g) (Int32.ofNat t) gf st fa fb fn fr Ww TM MA LA IT HE OR BO VV KP TR) (mX0_copy_0 l D d cs (w0 ++ wi) ln lf dk dn him sa ha ta (Int32.ofNat t) gf (Int32.ofNat g) tra gs RW p1 p2 p3 p4 p5 hfl _ h1) (mX9_copy l (XE D cs w0) XE.ok D d ad (Int32.ofNat g) (Int32.ofNat t) gf gs fa fb fn fr MA LA IT HE p1 p2 p3 p4 p5 _ h2) rfl rfl ?_ (fun q hq => (List.mem_append.mp hq).elim Or.inl (fun hq => Or.inr (List.mem_append_right _ (List.mem_append_right _ (List.mem_append_right _ (List.mem_append_right _ hq)))))) ?_ ?_ ?_
    · refine hp.trans ?_
      refine pcountP (fun f g h1 h2 h3 h4 => ?_)
      simp only [SYS, MW, oV, h1, h2, h3]
      omega
    · refine pcountP (fun f g h1 h2 h3 h4 => ?_)
      simp only [SYS, MW, oV, h1, h2, h3]
      omega
    · intro r u hu hap
      refine ⟨hu, ?_⟩
      refine ⟨gf, st, fa, fb, fn, fr, Ww, TM, MA, LA, IT, HE, OR, BO, VV, KP, TR, tra, tba, tm, TB, hv, tv, LI, BE, TA, TK, RW, PA, IA, rs, ria, qa, xa, PH, IH, ln, lf, dk, dn, wi, g, t, rfl, ?_, ⟨hT, hP, hI, hRR, hRW, hTT, hTP, hGE, hTK, hPA, hPA2, hIA, him⟩⟩
      refine pcountP (fun f g h1 h2 h3 h4 => ?_)
      simp only [SYS, MW, oV, h1, h2, h3]
      omega
    · intro r u hu
      refine ⟨hu, ?_⟩
      refine pcountP (fun f g h1 h2 h3 h4 => ?_)
      simp only [SYS, MW, oV, h1, h2, h3]
      omega
  · rcases row_case hRW p3 with h0 | ⟨j, z, ua, hj, rfl, hz, hw2⟩
    · obtain ⟨ans, st, h1, h2⟩ := act_copy_0 (RW := RW) (HE := HE) hRR gs (Int32.ofNat i) p2 p3 p4 p5 (fun _ b => Or.inr ⟨⟨x, by rw [toClamp (by omega : i < 10)]; exact hx⟩, ⟨ra, by rw [toClamp (by omega : i < 10)]; exact hw⟩, h0 b⟩)
      refine law_ofE (ans := ans) (wi := (w0 ++ wi)) (wr := ([((sa 2), .inl (d 1, 110, .inl TA)), ((sa 3), .inl (d 4, 24, .inr (.inr (.inr (.inr PA))))), ((sa 4), .inl (d 4, 2, .inr (.inr (.inr (.inr IA))))), ((sa 5), .inl (d 0, 6, .inl LI)), ((sa 6), .inl (d 0, 6, .inl BE)), ((sa 7), .inl (d 5, 5, .inr (.inr (.inr (.inr TK))))), oV ha hv, aV d ha 1 (HHO hv), aV d ha 2 (HAT hv), aV d ha 3 (HTO hv), aV d ha 4 (HWE hv), aV d ha 5 (HHE hv), aV d ha 6 (HRA hv), oV ta tv, aV d ta 1 (HHO tv), aV d ta 2 (HAT tv), aV d ta 3 (HTO tv), aV d ta 4 (HWE tv), aV d ta 5 (HHE tv), aV d ta 6 (HRA tv), (tra, .inr (4, [.ref tba, .int tm])), (tba, .inl (d 0, 16, .inl TB))] ++ (pool (rC d ria RW rs) 8 ++ (pool (pC d PA qa PH) 24 ++ (pool (iC d IH xa) 2 ++ wi))) : va_W)) (wr9 := ([((ad 1), .inl (d 0, 1247, .inl Ww)), ((ad 2), .inl (d 0, 110, .inl TM)), ((ad 7), .inl (d 0, 7, .inl OR)), ((ad 8), .inl (d 0, 6, .inl BO)), ((ad 9), .inl (d 0, 45, .inl VV)), ((ad 10), .inl (d 2, 2, .inl KP)), ((ad 11), .inl (d 0, 16, .inl TR))] : va_W)) (wm' := MW d ad (Int32.ofNat g) (Int32.ofNat t) gf st fa fb fn fr Ww TM MA LA IT HE OR BO VV KP TR) (mX0_copy_0 l D d cs (w0 ++ wi) ln lf dk dn him sa ha ta (Int32.ofNat t) gf (Int32.ofNat g) tra gs RW (Int32.ofNat i) p2 p3 p4 p5 hfl _ h1) (mX9_copy l (XE D cs w0) XE.ok D d ad (Int32.ofNat g) (Int32.ofNat t) gf gs fa fb fn fr MA LA IT HE (Int32.ofNat i) p2 p3 p4 p5 _ h2) rfl rfl ?_ (fun q hq => (List.mem_append.mp hq).elim Or.inl (fun hq => Or.inr (List.mem_append_right _ (List.mem_append_right _ (List.mem_append_right _ (List.mem_append_right _ hq)))))) ?_ ?_ ?_
      · refine hp.trans ?_
        refine pcountP (fun f g h1 h2 h3 h4 => ?_)
        simp only [SYS, MW, oV, h1, h2, h3]
        omega
      · refine pcountP (fun f g h1 h2 h3 h4 => ?_)
        simp only [SYS, MW, oV, h1, h2, h3]
        omega
      · intro r u hu hap
        refine ⟨hu, ?_⟩
        refine ⟨gf, st, fa, fb, fn, fr, Ww, TM, MA, LA, IT, HE, OR, BO, VV, KP, TR, tra, tba, tm, TB, hv, tv, LI, BE, TA, TK, RW, PA, IA, rs, ria, qa, xa, PH, IH, ln, lf, dk, dn, wi, g, t, rfl, ?_, ⟨hT, hP, hI, hRR, hRW, hTT, hTP, hGE, hTK, hPA, hPA2, hIA, him⟩⟩
        refine pcountP (fun f g h1 h2 h3 h4 => ?_)
        simp only [SYS, MW, oV, h1, h2, h3]
        omega
      · intro r u hu
        refine ⟨hu, ?_⟩
        refine pcountP (fun f g h1 h2 h3 h4 => ?_)
        simp only [SYS, MW, oV, h1, h2, h3]
        omega
    · by_cases e : j = i
      · rw [e]
        clear e hz hw2 hj
        obtain ⟨n, l2, I⟩ := x
        have e1 := row_out (d := d) (ria := ria) hi hx hw
        dsimp only at e1
        have hrn : n ≤ 40 := ((hRR i hi).2 _ hx).1
        obtain ⟨ans, I', st, IT', HE', h1, h2, h3⟩ := act_copy_1 hRR HE gs p2 p4 p5 hi hx hw
        have e2 := row_in (d := d) (ria := ria) (ria' := ria) (rs := rs) (RW := RW) hi (nr_same (rs := rs) (x := some (n, l2, I'))) hw (fun j hj => ⟨nr_ne hj, rfl, rfl⟩)
        dsimp only at e2
        refine law_ofE (ans := ans) (wi := (w0 ++ wi)) (wr := ([((sa 2), .inl (d 1, 110, .inl TA)), ((sa 3), .inl (d 4, 24, .inr (.inr (.inr (.inr PA))))), ((sa 4), .inl (d 4, 2, .inr (.inr (.inr (.inr IA))))), ((sa 5), .inl (d 0, 6, .inl LI)), ((sa 6), .inl (d 0, 6, .inl BE)), ((sa 7), .inl (d 5, 5, .inr (.inr (.inr (.inr TK))))), oV ha hv, aV d ha 1 (HHO hv), aV d ha 2 (HAT hv), aV d ha 3 (HTO hv), aV d ha 4 (HWE hv), aV d ha 5 (HHE hv), aV d ha 6 (HRA hv), oV ta tv, aV d ta 1 (HHO tv), aV d ta 2 (HAT tv), aV d ta 3 (HTO tv), aV d ta 4 (HWE tv), aV d ta 5 (HHE tv), aV d ta 6 (HRA tv), (tra, .inr (4, [.ref tba, .int tm])), (tba, .inl (d 0, 16, .inl TB))] ++ (pool (wo (rC d ria RW rs) i) 8 ++ (pool (pC d PA qa PH) 24 ++ (pool (iC d IH xa) 2 ++ wi))) : va_W)) (wr9 := ([((ad 1), .inl (d 0, 1247, .inl Ww)), ((ad 2), .inl (d 0, 110, .inl TM)), ((ad 7), .inl (d 0, 7, .inl OR)), ((ad 8), .inl (d 0, 6, .inl BO)), ((ad 9), .inl (d 0, 45, .inl VV)), ((ad 10), .inl (d 2, 2, .inl KP)), ((ad 11), .inl (d 0, 16, .inl TR))] : va_W)) (wm' := MW d ad (Int32.ofNat g) (Int32.ofNat t) gf st fa fb fn fr Ww TM MA LA IT' HE' OR BO VV KP TR) (mX0_copy_1 l D d cs (w0 ++ wi) ln lf dk dn him sa ha ta ra (ria i) n (Int32.ofNat t) gf (Int32.ofNat g) tra gs RW l2 I (Int32.ofNat i) p2 (Int32.ofNat i) p4 p5 hfl hrn _ h1) (mX9_copy l (XE D cs w0) XE.ok D d ad (Int32.ofNat g) (Int32.ofNat t) gf gs fa fb fn fr MA LA IT HE (Int32.ofNat i) p2 (Int32.ofNat i) p4 p5 _ h2) rfl rfl ?_ (fun q hq => (List.mem_append.mp hq).elim Or.inl (fun hq => Or.inr (List.mem_append_right _ (List.mem_append_right _ (List.mem_append_right _ (List.mem_append_right _ hq)))))) ?_ ?_ ?_
        · refine hp.trans ?_
          refine pcountP (fun f g h1 h2 h3 h4 => ?_)
          have e1_ := h4 _ _ e1
          simp only [SYS, MW, oV, h1, h2, h3] at e1_ ⊢
          omega
        · refine pcountP (fun f g h1 h2 h3 h4 => ?_)
          simp only [SYS, MW, oV, h1, h2, h3]
          omega
        · intro r u hu hap
          refine ⟨hu, ?_⟩
          refine ⟨gf, st, fa, fb, fn, fr, Ww, TM, MA, LA, IT', HE', OR, BO, VV, KP, TR, tra, tba, tm, TB, hv, tv, LI, BE, TA, TK, RW, PA, IA, (nr rs i (some (n, l2, I'))), ria, qa, xa, PH, IH, ln, lf, dk, dn, wi, g, t, rfl, ?_, ⟨hT, hP, hI, h3, rw_some hRW hw _, hTT, hTP, hGE, hTK, hPA, hPA2, hIA, him⟩⟩
          refine pcountP (fun f g h1 h2 h3 h4 => ?_)
          have e2_ := h4 _ _ e2
          simp only [SYS, MW, oV, h1, h2, h3] at e2_ ⊢
          omega
        · intro r u hu
          refine ⟨hu, ?_⟩
          refine pcountP (fun f g h1 h2 h3 h4 => ?_)
          simp only [SYS, MW, oV, h1, h2, h3]
          omega
      · obtain ⟨n, l2, I⟩ := x
        obtain ⟨m, k2, U⟩ := z
        have e1 := row_out (d := d) (ria := ria) hi hx hw
        have e5 := pool_at (f := wo (rC d ria RW rs) i) hj
        rw [show wo (rC d ria RW rs) i j = _ from (if_neg e).trans (rC_at hz hw2)] at e5
        dsimp only at e1 e5
        have hrn : n ≤ 40 := ((hRR i hi).2 _ hx).1
        have hun : m ≤ 40 := ((hRR j hj).2 _ hz).1
        obtain ⟨ans, U', st, IT', HE', h1, h2, h3⟩ := act_copy_2 hRR HE gs p2 p4 p5 hi hj hx hw hz hw2
        have e2 := row_out (d := d) (ria := ria) (rs := nr rs j (some (m, k2, U'))) (RW := RW) hi ((nr_ne (fun h => e h.symm)).trans hx) hw
        have e6 := pool_at (f := wo (rC d ria RW (nr rs j (some (m, k2, U')))) i) hj
        rw [show wo (rC d ria RW (nr rs j (some (m, k2, U')))) i j = _ from (if_neg e).trans (rC_at nr_same hw2), show wo (wo (rC d ria RW (nr rs j (some (m, k2, U')))) i) j = wo (wo (rC d ria RW rs) i) j from wo_congr (fun z hz => by unfold wo; rw [rC_congr (nr_ne hz) rfl rfl])] at e6
        dsimp only at e2 e6
        refine law_ofE (ans := ans) (wi := (w0 ++ wi)) (wr := ([((sa 2), .inl (d 1, 110, .inl TA)), ((sa 3), .inl (d 4, 24, .inr (.inr (.inr (.inr PA))))), ((sa 4), .inl (d 4, 2, .inr (.inr (.inr (.inr IA))))), ((sa 5), .inl (d 0, 6, .inl LI)), ((sa 6), .inl (d 0, 6, .inl BE)), ((sa 7), .inl (d 5, 5, .inr (.inr (.inr (.inr TK))))), oV ha hv, aV d ha 1 (HHO hv), aV d ha 2 (HAT hv), aV d ha 3 (HTO hv), aV d ha 4 (HWE hv), aV d ha 5 (HHE hv), aV d ha 6 (HRA hv), oV ta tv, aV d ta 1 (HHO tv), aV d ta 2 (HAT tv), aV d ta 3 (HTO tv), aV d ta 4 (HWE tv), aV d ta 5 (HHE tv), aV d ta 6 (HRA tv), (tra, .inr (4, [.ref tba, .int tm])), (tba, .inl (d 0, 16, .inl TB))] ++ (pool (wo (wo (rC d ria RW rs) i) j) 8 ++ (pool (pC d PA qa PH) 24 ++ (pool (iC d IH xa) 2 ++ wi))) : va_W)) (wr9 := ([((ad 1), .inl (d 0, 1247, .inl Ww)), ((ad 2), .inl (d 0, 110, .inl TM)), ((ad 7), .inl (d 0, 7, .inl OR)), ((ad 8), .inl (d 0, 6, .inl BO)), ((ad 9), .inl (d 0, 45, .inl VV)), ((ad 10), .inl (d 2, 2, .inl KP)), ((ad 11), .inl (d 0, 16, .inl TR))] : va_W)) (wm' := MW d ad (Int32.ofNat g) (Int32.ofNat t) gf st fa fb fn fr Ww TM MA LA IT' HE' OR BO VV KP TR) (mX0_copy_2 l D d cs (w0 ++ wi) ln lf dk dn him sa ha ta ra ua (ria i) n (ria j) m (Int32.ofNat t) gf (Int32.ofNat g) tra gs RW l2 k2 I U (Int32.ofNat i) p2 (Int32.ofNat j) p4 p5 hfl hrn hun _ h1) (mX9_copy l (XE D cs w0) XE.ok D d ad (Int32.ofNat g) (Int32.ofNat t) gf gs fa fb fn fr MA LA IT HE (Int32.ofNat i) p2 (Int32.ofNat j) p4 p5 _ h2) rfl rfl ?_ (fun q hq => (List.mem_append.mp hq).elim Or.inl (fun hq => Or.inr (List.mem_append_right _ (List.mem_append_right _ (List.mem_append_right _ (List.mem_append_right _ hq)))))) ?_ ?_ ?_
        · refine hp.trans ?_
          refine pcountP (fun f g h1 h2 h3 h4 => ?_)
          have e1_ := h4 _ _ e1
          have e5_ := h4 _ _ e5
          simp only [SYS, MW, oV, h1, h2, h3] at e1_ e5_ ⊢
          omega
        · refine pcountP (fun f g h1 h2 h3 h4 => ?_)
          simp only [SYS, MW, oV, h1, h2, h3]
          omega
        · intro r u hu hap
          refine ⟨hu, ?_⟩
          refine ⟨gf, st, fa, fb, fn, fr, Ww, TM, MA, LA, IT', HE', OR, BO, VV, KP, TR, tra, tba, tm, TB, hv, tv, LI, BE, TA, TK, RW, PA, IA, (nr rs j (some (m, k2, U'))), ria, qa, xa, PH, IH, ln, lf, dk, dn, wi, g, t, rfl, ?_, ⟨hT, hP, hI, h3, rw_some hRW hw2 _, hTT, hTP, hGE, hTK, hPA, hPA2, hIA, him⟩⟩
          refine pcountP (fun f g h1 h2 h3 h4 => ?_)
          have e2_ := h4 _ _ e2
          have e6_ := h4 _ _ e6
          simp only [SYS, MW, oV, h1, h2, h3] at e2_ e6_ ⊢
          omega
        · intro r u hu
          refine ⟨hu, ?_⟩
          refine pcountP (fun f g h1 h2 h3 h4 => ?_)
          simp only [SYS, MW, oV, h1, h2, h3]
          omega
