/-! THE LAW'S WALK: its cases -/
set_option maxRecDepth 100000
theorem rb_spec {rm : Room} (h : RB rm = true) : rm.frames ≤ 200 ∧ rm.cells ≤ 4000 ∧ rm.slots ≤ 50000 ∧ rm.locals ≤ 50000 := by
  unfold RB at h
  simp only [Bool.and_eq_true, Nat.ble_eq] at h
  exact h
theorem rm_recv0 {D : va_G} {d : Nat → ClassId} {s : State} {H : Heap} {sa ha ta ad : Nat → Nat} {w0 ws wm : va_W} (hK : va_K D vwCl (tyA d) s) (hP : va_P D vwCl (ws ++ wm) H) (h : RM d sa ha ta ad w0 ws wm) : ∃ cell : Cell, H[sa 0]? = some cell ∧ cell.vm.isStatics = false ∧ s.vm.findClass RX0 = some cell.cls := by
  obtain ⟨gf, gs, fa, fb, fn, fr, Ww, TM, MA, LA, IT, HE, OR, BO, VV, KP, TR, tra, tba, tm, TB, hv, tv, LI, BE, TA, TK, RW, PA, IA, rs, ria, qa, xa, PH, IH, ln, lf, dk, dn, wi, g, t, rfl, hp, hF⟩ := h
  obtain ⟨k, hk, hk2⟩ := List.getElem_of_mem (List.mem_append_left (MW d ad (Int32.ofNat g) (Int32.ofNat t) gf gs fa fb fn fr Ww TM MA LA IT HE OR BO VV KP TR) (hp.mem_iff.mpr (List.mem_append_left _ List.mem_cons_self)))
  exact va_recv hK hP (ci := 1) (q0 := k) rfl (by rw [List.getElem?_eq_getElem hk, hk2])
theorem rm_recv9 {D : va_G} {d : Nat → ClassId} {s : State} {H : Heap} {sa ha ta ad : Nat → Nat} {w0 ws wm wr : va_W} (hK : va_K D vwCl (tyA d) s) (hP : va_P D vwCl (wm ++ wr) H) (h : RM d sa ha ta ad w0 ws wm) : ∃ cell : Cell, H[ad 0]? = some cell ∧ cell.vm.isStatics = false ∧ s.vm.findClass RX9 = some cell.cls := by
  obtain ⟨gf, gs, fa, fb, fn, fr, Ww, TM, MA, LA, IT, HE, OR, BO, VV, KP, TR, tra, tba, tm, TB, hv, tv, LI, BE, TA, TK, RW, PA, IA, rs, ria, qa, xa, PH, IH, ln, lf, dk, dn, wi, g, t, rfl, hp, hF⟩ := h
  exact va_recv hK hP (ci := 0) (q0 := 0) rfl rfl
theorem sc_in {i L k : Nat} (hi : 6 * i + 6 ≤ L) (hL : L ≤ 384) (hk : k < 6) : vp_in (Int32.ofNat (6 * i) + Int32.ofNat k) L := by
  rw [oadd]
  intro h
  have hc : (Int32.ofNat (6 * i + k)).toInt = ((6 * i + k : Nat) : Int) := Int32.toInt_ofNat_of_lt (by omega)
  rcases h with h | h
  · have h2 := Int32.lt_iff_toInt_lt.mp h
    rw [hc] at h2
    have h3 : (0 : Int32).toInt = 0 := rfl
    omega
  · have h2 : (Int32.ofNat (6 * i + k)).toNatClampNeg = 6 * i + k := by
      show (Int32.ofNat (6 * i + k)).toInt.toNat = _
      rw [hc]; rfl
    omega
theorem hd_X0_house : yX0_house.cls = "DishLift" ∧ yX0_house.cls ≠ "java/lang/invoke/MethodHandle" ∧ yX0_house.cls ≠ "java/lang/invoke/VarHandle" ∧ (parseMethodDescriptor yX0_house.desc).map (fun d => d.parameters.length) = some 0 := by decide +kernel
theorem lcmp_same (x : Int64) : (if x > x then (1 : Int32) else if x = x then 0 else -1) = 0 := by
  rw [if_neg (show ¬ x > x from Int64.lt_irrefl), if_pos rfl]
section LWC
variable {p : Program} {l : Launch} {e : Env} {s : State} {m : MethodId} {args : Array Value} {below : List Frame} {meth : Method} {c : Code} {D : va_G} {d : Nat → ClassId} {A : Nat → Prop} {cs : Nat → Nat} {w0 : va_W} {b L i : Nat} {xs : Nat → Int32} {sa ha ta ad : Nat → Nat} {nm : String} {H : Heap} {locs : List Loc} {ls : Array Slot} {cells slots : Nat} {Q : State → Prop} {ws wm : va_W}
/-- what holds all through the law's loop -/
def LC (l : Launch) (p : Program) (s : State) (m : MethodId) (args : Array Value) (meth : Method) (c : Code) (D : va_G) (d : Nat → ClassId) (A : Nat → Prop) (cs : Nat → Nat) (w0 : va_W) (b L : Nat) (xs : Nat → Int32) (nm : String) : Prop :=
  l.stackTraces = false ∧ StrF d cs w0 ∧ EmpF d cs w0 ∧ (∀ q ∈ w0, ∀ c fs, q.2 = .inr (c, fs) → c = 14) ∧ Cx p s m args meth c (XE D cs w0) D d A "DishLiftLaw" cL_law 4 ret nm ∧ va_X b L xs s s.heap ∧ b < s.heap.size ∧ ¬ A b ∧ L ≤ 384
theorem lw_c_row (lc : LC l p s m args meth c D d A cs w0 b L xs nm) (hi : 6 * i + 6 ≤ L) (hR : RM d sa ha ta ad w0 ws wm) (hc : cells ≤ 590000) (hsl : slots ≤ 7100000) (hw : Wd D A s (ws ++ wm) H locs) (hl : lv_has ls 4 [(3, .int (Int32.ofNat (6 * i))), (2, .ref (ad 0)), (1, .ref (sa 0)), (0, .ref b)]) (kk : ∀ (ws2 wm2 : va_W) (H1 : Heap) (locs1 : List Loc) (c1 s1 : Nat), RM d sa ha ta ad w0 ws2 wm2 → c1 ≤ cells + 8000 → s1 ≤ slots + 100000 → Wd D A s (ws2 ++ wm2) H1 locs1 → W p l e room_1 s m args below meth c H1 locs1 c1 s1 Q (F0 m 1288 ls [])) : W p l e room_1 s m args below meth c H locs cells slots Q (F0 m 196 ls []) := by
  obtain ⟨hfl, hs, he, h14, cx, hXs, hbl, hbA, hL⟩ := lc
  have cx' := cx
  obtain ⟨hx, hb, hr, hlk, hml, hown, hts, hK, hA, hXX, hnm⟩ := cx'
  have hX := XE.ok (D := D) (cs := cs) (wi := w0)
  obtain ⟨ans, wm2, rm0, rm9, b0, b9, M0, M9⟩ := L_row (l := l) (D := D) (cs := cs) hR (xs (Int32.ofNat (6 * i) + 1).toNatClampNeg) (xs (Int32.ofNat (6 * i) + 2).toNatClampNeg) (xs (Int32.ofNat (6 * i) + 3).toNatClampNeg)
  obtain ⟨r1, r2, r3, r4⟩ := rb_spec b0
  obtain ⟨q1, q2, q3, q4⟩ := rb_spec b9
  refine lv_aload_n hx hb dL_law_196 rfl (lv_at hl 2 rfl) ?_
  refine lv_aload_n hx hb dL_law_197 rfl (lv_at hl 3 rfl) ?_
  refine lv_iload_n hx hb dL_law_198 rfl (lv_at hl 0 rfl) ?_
  refine lv_iconst (v := 1) hx hb dL_law_199 (by decide) ?_
  refine lv_iadd hx hb dL_law_200 ?_
  refine va_sld hx hb hXs hbl hbA hw.2.2 (sc_in hi hL (k := 1) (by decide)) dL_law_201 ?_
  refine lv_aload_n hx hb dL_law_202 rfl (lv_at hl 3 rfl) ?_
  refine lv_iload_n hx hb dL_law_203 rfl (lv_at hl 0 rfl) ?_
  refine lv_iconst (v := 2) hx hb dL_law_204 (by decide) ?_
  refine lv_iadd hx hb dL_law_205 ?_
  refine va_sld hx hb hXs hbl hbA hw.2.2 (sc_in hi hL (k := 2) (by decide)) dL_law_206 ?_
  refine lv_aload_n hx hb dL_law_207 rfl (lv_at hl 3 rfl) ?_
  refine lv_iload_n hx hb dL_law_208 rfl (lv_at hl 0 rfl) ?_
  refine lv_iconst (v := 3) hx hb dL_law_209 (by decide) ?_
  refine lv_iadd hx hb dL_law_210 ?_
  refine va_sld hx hb hXs hbl hbA hw.2.2 (sc_in hi hL (k := 3) (by decide)) dL_law_211 ?_
  refine x_VIH (wr := wm) (rest := []) [.int (xs (Int32.ofNat (6 * i) + 1).toNatClampNeg), .int (xs (Int32.ofNat (6 * i) + 2).toNatClampNeg), .int (xs (Int32.ofNat (6 * i) + 3).toNatClampNeg)] hX cx hw hl.1 M0 (lw_VW q337 q338 q339 q82 q340) hd_X0_row ⟨by show _ ≤ 8192; omega, by show _ ≤ 104096; omega⟩ (rm_recv0 hK hw.1 hR) rfl rfl (Nat.le_of_ble_eq_true rfl) dL_law_212 (List.range ws.length) (List.range' ws.length wm.length) (rg_nd0 _) (rg_pre ws wm) (rg_map ws wm _ rfl) (rg_nd _ _) (rg_dis _ _) ⟨by show _ ≤ 603072; omega, by show _ ≤ 7262314; omega⟩ (fun r u H locs hp hw => ?_)
  obtain ⟨rfl, hR2⟩ := hp
  refine lv_aload_n hx hb dL_law_215 rfl (lv_at hl 1 rfl) ?_
  refine lv_aload_n hx hb dL_law_216 rfl (lv_at hl 3 rfl) ?_
  refine lv_iload_n hx hb dL_law_217 rfl (lv_at hl 0 rfl) ?_
  refine lv_iconst (v := 1) hx hb dL_law_218 (by decide) ?_
  refine lv_iadd hx hb dL_law_219 ?_
  refine va_sld hx hb hXs hbl hbA hw.2.2 (sc_in hi hL (k := 1) (by decide)) dL_law_220 ?_
  refine lv_aload_n hx hb dL_law_221 rfl (lv_at hl 3 rfl) ?_
  refine lv_iload_n hx hb dL_law_222 rfl (lv_at hl 0 rfl) ?_
  refine lv_iconst (v := 2) hx hb dL_law_223 (by decide) ?_
  refine lv_iadd hx hb dL_law_224 ?_
  refine va_sld hx hb hXs hbl hbA hw.2.2 (sc_in hi hL (k := 2) (by decide)) dL_law_225 ?_
  refine lv_aload_n hx hb dL_law_226 rfl (lv_at hl 3 rfl) ?_
  refine lv_iload_n hx hb dL_law_227 rfl (lv_at hl 0 rfl) ?_
  refine lv_iconst (v := 3) hx hb dL_law_228 (by decide) ?_
  refine lv_iadd hx hb dL_law_229 ?_
  refine va_sld hx hb hXs hbl hbA hw.2.2 (sc_in hi hL (k := 3) (by decide)) dL_law_230 ?_
  refine x_VI (wr := u) (rest := [.int r]) [.int (xs (Int32.ofNat (6 * i) + 1).toNatClampNeg), .int (xs (Int32.ofNat (6 * i) + 2).toNatClampNeg), .int (xs (Int32.ofNat (6 * i) + 3).toNatClampNeg)] hX cx hw hl.1 M9 (lw_V q1307 q1308 q1309 q94 q1310) hd_X9_row ⟨by show _ ≤ 8192; omega, by show _ ≤ 104096; omega⟩ (rm_recv9 hK hw.1 hR) rfl rfl (Nat.le_of_ble_eq_true rfl) dL_law_231 (List.range wm.length) (List.range' wm.length u.length) (rg_nd0 _) (rg_pre wm u) (rg_map wm u _ rfl) (rg_nd _ _) (rg_dis _ _) ⟨by show _ ≤ 603072; omega, by show _ ≤ 7262314; omega⟩ (fun r9 u9 H locs hp hw => ?_)
  subst hp
  refine lv_icmp_eq (tgt := 1288) hx hb dL_law_234 (by decide) (fun c9 => ?_) (fun c9 => ?_)
  · exact kk u wm2 H locs _ _ hR2 (by omega) (by omega) hw
  · exact absurd rfl c9
theorem lw_c_set (lc : LC l p s m args meth c D d A cs w0 b L xs nm) (hi : 6 * i + 6 ≤ L) (hR : RM d sa ha ta ad w0 ws wm) (hc : cells ≤ 590000) (hsl : slots ≤ 7100000) (hw : Wd D A s (ws ++ wm) H locs) (hl : lv_has ls 4 [(3, .int (Int32.ofNat (6 * i))), (2, .ref (ad 0)), (1, .ref (sa 0)), (0, .ref b)]) (kk : ∀ (ws2 wm2 : va_W) (H1 : Heap) (locs1 : List Loc) (c1 s1 : Nat), RM d sa ha ta ad w0 ws2 wm2 → c1 ≤ cells + 8000 → s1 ≤ slots + 100000 → Wd D A s (ws2 ++ wm2) H1 locs1 → W p l e room_1 s m args below meth c H1 locs1 c1 s1 Q (F0 m 1288 ls [])) : W p l e room_1 s m args below meth c H locs cells slots Q (F0 m 239 ls []) := by
  obtain ⟨hfl, hs, he, h14, cx, hXs, hbl, hbA, hL⟩ := lc
  have cx' := cx
  obtain ⟨hx, hb, hr, hlk, hml, hown, hts, hK, hA, hXX, hnm⟩ := cx'
  have hX := XE.ok (D := D) (cs := cs) (wi := w0)
  obtain ⟨ans, wm2, rm0, rm9, b0, b9, M0, M9⟩ := L_set (l := l) (D := D) (cs := cs) hR (xs (Int32.ofNat (6 * i) + 1).toNatClampNeg) (xs (Int32.ofNat (6 * i) + 2).toNatClampNeg) (xs (Int32.ofNat (6 * i) + 3).toNatClampNeg)
  obtain ⟨r1, r2, r3, r4⟩ := rb_spec b0
  obtain ⟨q1, q2, q3, q4⟩ := rb_spec b9
  refine lv_aload_n hx hb dL_law_239 rfl (lv_at hl 2 rfl) ?_
  refine lv_aload_n hx hb dL_law_240 rfl (lv_at hl 3 rfl) ?_
  refine lv_iload_n hx hb dL_law_241 rfl (lv_at hl 0 rfl) ?_
  refine lv_iconst (v := 1) hx hb dL_law_242 (by decide) ?_
  refine lv_iadd hx hb dL_law_243 ?_
  refine va_sld hx hb hXs hbl hbA hw.2.2 (sc_in hi hL (k := 1) (by decide)) dL_law_244 ?_
  refine lv_aload_n hx hb dL_law_245 rfl (lv_at hl 3 rfl) ?_
  refine lv_iload_n hx hb dL_law_246 rfl (lv_at hl 0 rfl) ?_
  refine lv_iconst (v := 2) hx hb dL_law_247 (by decide) ?_
  refine lv_iadd hx hb dL_law_248 ?_
  refine va_sld hx hb hXs hbl hbA hw.2.2 (sc_in hi hL (k := 2) (by decide)) dL_law_249 ?_
  refine lv_aload_n hx hb dL_law_250 rfl (lv_at hl 3 rfl) ?_
  refine lv_iload_n hx hb dL_law_251 rfl (lv_at hl 0 rfl) ?_
  refine lv_iconst (v := 3) hx hb dL_law_252 (by decide) ?_
  refine lv_iadd hx hb dL_law_253 ?_
  refine va_sld hx hb hXs hbl hbA hw.2.2 (sc_in hi hL (k := 3) (by decide)) dL_law_254 ?_
  refine x_VIH (wr := wm) (rest := []) [.int (xs (Int32.ofNat (6 * i) + 1).toNatClampNeg), .int (xs (Int32.ofNat (6 * i) + 2).toNatClampNeg), .int (xs (Int32.ofNat (6 * i) + 3).toNatClampNeg)] hX cx hw hl.1 M0 (lw_VW q442 q443 q444 q82 q445) hd_X0_set ⟨by show _ ≤ 8192; omega, by show _ ≤ 104096; omega⟩ (rm_recv0 hK hw.1 hR) rfl rfl (Nat.le_of_ble_eq_true rfl) dL_law_255 (List.range ws.length) (List.range' ws.length wm.length) (rg_nd0 _) (rg_pre ws wm) (rg_map ws wm _ rfl) (rg_nd _ _) (rg_dis _ _) ⟨by show _ ≤ 603072; omega, by show _ ≤ 7262314; omega⟩ (fun r u H locs hp hw => ?_)
  obtain ⟨rfl, hR2⟩ := hp
  refine lv_aload_n hx hb dL_law_258 rfl (lv_at hl 1 rfl) ?_
  refine lv_aload_n hx hb dL_law_259 rfl (lv_at hl 3 rfl) ?_
  refine lv_iload_n hx hb dL_law_260 rfl (lv_at hl 0 rfl) ?_
  refine lv_iconst (v := 1) hx hb dL_law_261 (by decide) ?_
  refine lv_iadd hx hb dL_law_262 ?_
  refine va_sld hx hb hXs hbl hbA hw.2.2 (sc_in hi hL (k := 1) (by decide)) dL_law_263 ?_
  refine lv_aload_n hx hb dL_law_264 rfl (lv_at hl 3 rfl) ?_
  refine lv_iload_n hx hb dL_law_265 rfl (lv_at hl 0 rfl) ?_
  refine lv_iconst (v := 2) hx hb dL_law_266 (by decide) ?_
  refine lv_iadd hx hb dL_law_267 ?_
  refine va_sld hx hb hXs hbl hbA hw.2.2 (sc_in hi hL (k := 2) (by decide)) dL_law_268 ?_
  refine lv_aload_n hx hb dL_law_269 rfl (lv_at hl 3 rfl) ?_
  refine lv_iload_n hx hb dL_law_270 rfl (lv_at hl 0 rfl) ?_
  refine lv_iconst (v := 3) hx hb dL_law_271 (by decide) ?_
  refine lv_iadd hx hb dL_law_272 ?_
  refine va_sld hx hb hXs hbl hbA hw.2.2 (sc_in hi hL (k := 3) (by decide)) dL_law_273 ?_
  refine x_VI (wr := u) (rest := [.int r]) [.int (xs (Int32.ofNat (6 * i) + 1).toNatClampNeg), .int (xs (Int32.ofNat (6 * i) + 2).toNatClampNeg), .int (xs (Int32.ofNat (6 * i) + 3).toNatClampNeg)] hX cx hw hl.1 M9 (lw_V q1325 q1326 q1327 q94 q1328) hd_X9_set ⟨by show _ ≤ 8192; omega, by show _ ≤ 104096; omega⟩ (rm_recv9 hK hw.1 hR) rfl rfl (Nat.le_of_ble_eq_true rfl) dL_law_274 (List.range wm.length) (List.range' wm.length u.length) (rg_nd0 _) (rg_pre wm u) (rg_map wm u _ rfl) (rg_nd _ _) (rg_dis _ _) ⟨by show _ ≤ 603072; omega, by show _ ≤ 7262314; omega⟩ (fun r9 u9 H locs hp hw => ?_)
  subst hp
  refine lv_icmp_eq (tgt := 1288) hx hb dL_law_277 (by decide) (fun c9 => ?_) (fun c9 => ?_)
  · exact kk u wm2 H locs _ _ hR2 (by omega) (by omega) hw
  · exact absurd rfl c9
theorem lw_c_copy (lc : LC l p s m args meth c D d A cs w0 b L xs nm) (hi : 6 * i + 6 ≤ L) (hR : RM d sa ha ta ad w0 ws wm) (hc : cells ≤ 590000) (hsl : slots ≤ 7100000) (hw : Wd D A s (ws ++ wm) H locs) (hl : lv_has ls 4 [(3, .int (Int32.ofNat (6 * i))), (2, .ref (ad 0)), (1, .ref (sa 0)), (0, .ref b)]) (kk : ∀ (ws2 wm2 : va_W) (H1 : Heap) (locs1 : List Loc) (c1 s1 : Nat), RM d sa ha ta ad w0 ws2 wm2 → c1 ≤ cells + 8000 → s1 ≤ slots + 100000 → Wd D A s (ws2 ++ wm2) H1 locs1 → W p l e room_1 s m args below meth c H1 locs1 c1 s1 Q (F0 m 1288 ls [])) : W p l e room_1 s m args below meth c H locs cells slots Q (F0 m 282 ls []) := by
  obtain ⟨hfl, hs, he, h14, cx, hXs, hbl, hbA, hL⟩ := lc
  have cx' := cx
  obtain ⟨hx, hb, hr, hlk, hml, hown, hts, hK, hA, hXX, hnm⟩ := cx'
  have hX := XE.ok (D := D) (cs := cs) (wi := w0)
  obtain ⟨ans, wm2, rm0, rm9, b0, b9, M0, M9⟩ := L_copy (l := l) (D := D) (cs := cs) hfl hR (xs (Int32.ofNat (6 * i) + 1).toNatClampNeg) (xs (Int32.ofNat (6 * i) + 2).toNatClampNeg) (xs (Int32.ofNat (6 * i) + 3).toNatClampNeg) (xs (Int32.ofNat (6 * i) + 4).toNatClampNeg) (xs (Int32.ofNat (6 * i) + 5).toNatClampNeg)
  obtain ⟨r1, r2, r3, r4⟩ := rb_spec b0
  obtain ⟨q1, q2, q3, q4⟩ := rb_spec b9
  refine lv_aload_n hx hb dL_law_282 rfl (lv_at hl 2 rfl) ?_
  refine lv_aload_n hx hb dL_law_283 rfl (lv_at hl 3 rfl) ?_
  refine lv_iload_n hx hb dL_law_284 rfl (lv_at hl 0 rfl) ?_
  refine lv_iconst (v := 1) hx hb dL_law_285 (by decide) ?_
  refine lv_iadd hx hb dL_law_286 ?_
  refine va_sld hx hb hXs hbl hbA hw.2.2 (sc_in hi hL (k := 1) (by decide)) dL_law_287 ?_
  refine lv_aload_n hx hb dL_law_288 rfl (lv_at hl 3 rfl) ?_
  refine lv_iload_n hx hb dL_law_289 rfl (lv_at hl 0 rfl) ?_
  refine lv_iconst (v := 2) hx hb dL_law_290 (by decide) ?_
  refine lv_iadd hx hb dL_law_291 ?_
  refine va_sld hx hb hXs hbl hbA hw.2.2 (sc_in hi hL (k := 2) (by decide)) dL_law_292 ?_
  refine lv_aload_n hx hb dL_law_293 rfl (lv_at hl 3 rfl) ?_
  refine lv_iload_n hx hb dL_law_294 rfl (lv_at hl 0 rfl) ?_
  refine lv_iconst (v := 3) hx hb dL_law_295 (by decide) ?_
  refine lv_iadd hx hb dL_law_296 ?_
  refine va_sld hx hb hXs hbl hbA hw.2.2 (sc_in hi hL (k := 3) (by decide)) dL_law_297 ?_
  refine lv_aload_n hx hb dL_law_298 rfl (lv_at hl 3 rfl) ?_
  refine lv_iload_n hx hb dL_law_299 rfl (lv_at hl 0 rfl) ?_
  refine lv_iconst (v := 4) hx hb dL_law_300 (by decide) ?_
  refine lv_iadd hx hb dL_law_301 ?_
  refine va_sld hx hb hXs hbl hbA hw.2.2 (sc_in hi hL (k := 4) (by decide)) dL_law_302 ?_
  refine lv_aload_n hx hb dL_law_303 rfl (lv_at hl 3 rfl) ?_
  refine lv_iload_n hx hb dL_law_304 rfl (lv_at hl 0 rfl) ?_
  refine lv_iconst (v := 5) hx hb dL_law_305 (by decide) ?_
  refine lv_iadd hx hb dL_law_306 ?_
  refine va_sld hx hb hXs hbl hbA hw.2.2 (sc_in hi hL (k := 5) (by decide)) dL_law_307 ?_
  refine x_VIH (wr := wm) (rest := []) [.int (xs (Int32.ofNat (6 * i) + 1).toNatClampNeg), .int (xs (Int32.ofNat (6 * i) + 2).toNatClampNeg), .int (xs (Int32.ofNat (6 * i) + 3).toNatClampNeg), .int (xs (Int32.ofNat (6 * i) + 4).toNatClampNeg), .int (xs (Int32.ofNat (6 * i) + 5).toNatClampNeg)] hX cx hw hl.1 M0 (lw_VW q454 q455 q456 q82 q457) hd_X0_copy ⟨by show _ ≤ 8192; omega, by show _ ≤ 104096; omega⟩ (rm_recv0 hK hw.1 hR) rfl rfl (Nat.le_of_ble_eq_true rfl) dL_law_308 (List.range ws.length) (List.range' ws.length wm.length) (rg_nd0 _) (rg_pre ws wm) (rg_map ws wm _ rfl) (rg_nd _ _) (rg_dis _ _) ⟨by show _ ≤ 603072; omega, by show _ ≤ 7262314; omega⟩ (fun r u H locs hp hw => ?_)
  obtain ⟨rfl, hR2⟩ := hp
  refine lv_aload_n hx hb dL_law_311 rfl (lv_at hl 1 rfl) ?_
  refine lv_aload_n hx hb dL_law_312 rfl (lv_at hl 3 rfl) ?_
  refine lv_iload_n hx hb dL_law_313 rfl (lv_at hl 0 rfl) ?_
  refine lv_iconst (v := 1) hx hb dL_law_314 (by decide) ?_
  refine lv_iadd hx hb dL_law_315 ?_
  refine va_sld hx hb hXs hbl hbA hw.2.2 (sc_in hi hL (k := 1) (by decide)) dL_law_316 ?_
  refine lv_aload_n hx hb dL_law_317 rfl (lv_at hl 3 rfl) ?_
  refine lv_iload_n hx hb dL_law_318 rfl (lv_at hl 0 rfl) ?_
  refine lv_iconst (v := 2) hx hb dL_law_319 (by decide) ?_
  refine lv_iadd hx hb dL_law_320 ?_
  refine va_sld hx hb hXs hbl hbA hw.2.2 (sc_in hi hL (k := 2) (by decide)) dL_law_321 ?_
  refine lv_aload_n hx hb dL_law_322 rfl (lv_at hl 3 rfl) ?_
  refine lv_iload_n hx hb dL_law_323 rfl (lv_at hl 0 rfl) ?_
  refine lv_iconst (v := 3) hx hb dL_law_324 (by decide) ?_
  refine lv_iadd hx hb dL_law_325 ?_
  refine va_sld hx hb hXs hbl hbA hw.2.2 (sc_in hi hL (k := 3) (by decide)) dL_law_326 ?_
  refine lv_aload_n hx hb dL_law_327 rfl (lv_at hl 3 rfl) ?_
  refine lv_iload_n hx hb dL_law_328 rfl (lv_at hl 0 rfl) ?_
  refine lv_iconst (v := 4) hx hb dL_law_329 (by decide) ?_
  refine lv_iadd hx hb dL_law_330 ?_
  refine va_sld hx hb hXs hbl hbA hw.2.2 (sc_in hi hL (k := 4) (by decide)) dL_law_331 ?_
  refine lv_aload_n hx hb dL_law_332 rfl (lv_at hl 3 rfl) ?_
  refine lv_iload_n hx hb dL_law_333 rfl (lv_at hl 0 rfl) ?_
  refine lv_iconst (v := 5) hx hb dL_law_334 (by decide) ?_
  refine lv_iadd hx hb dL_law_335 ?_
  refine va_sld hx hb hXs hbl hbA hw.2.2 (sc_in hi hL (k := 5) (by decide)) dL_law_336 ?_
  refine x_VI (wr := u) (rest := [.int r]) [.int (xs (Int32.ofNat (6 * i) + 1).toNatClampNeg), .int (xs (Int32.ofNat (6 * i) + 2).toNatClampNeg), .int (xs (Int32.ofNat (6 * i) + 3).toNatClampNeg), .int (xs (Int32.ofNat (6 * i) + 4).toNatClampNeg), .int (xs (Int32.ofNat (6 * i) + 5).toNatClampNeg)] hX cx hw hl.1 M9 (lw_V q1333 q1334 q1335 q94 q1336) hd_X9_copy ⟨by show _ ≤ 8192; omega, by show _ ≤ 104096; omega⟩ (rm_recv9 hK hw.1 hR) rfl rfl (Nat.le_of_ble_eq_true rfl) dL_law_337 (List.range wm.length) (List.range' wm.length u.length) (rg_nd0 _) (rg_pre wm u) (rg_map wm u _ rfl) (rg_nd _ _) (rg_dis _ _) ⟨by show _ ≤ 603072; omega, by show _ ≤ 7262314; omega⟩ (fun r9 u9 H locs hp hw => ?_)
  subst hp
  refine lv_icmp_eq (tgt := 1288) hx hb dL_law_340 (by decide) (fun c9 => ?_) (fun c9 => ?_)
  · exact kk u wm2 H locs _ _ hR2 (by omega) (by omega) hw
  · exact absurd rfl c9
theorem lw_c_drop (lc : LC l p s m args meth c D d A cs w0 b L xs nm) (hi : 6 * i + 6 ≤ L) (hR : RM d sa ha ta ad w0 ws wm) (hc : cells ≤ 590000) (hsl : slots ≤ 7100000) (hw : Wd D A s (ws ++ wm) H locs) (hl : lv_has ls 4 [(3, .int (Int32.ofNat (6 * i))), (2, .ref (ad 0)), (1, .ref (sa 0)), (0, .ref b)]) (kk : ∀ (ws2 wm2 : va_W) (H1 : Heap) (locs1 : List Loc) (c1 s1 : Nat), RM d sa ha ta ad w0 ws2 wm2 → c1 ≤ cells + 8000 → s1 ≤ slots + 100000 → Wd D A s (ws2 ++ wm2) H1 locs1 → W p l e room_1 s m args below meth c H1 locs1 c1 s1 Q (F0 m 1288 ls [])) : W p l e room_1 s m args below meth c H locs cells slots Q (F0 m 345 ls []) := by
  obtain ⟨hfl, hs, he, h14, cx, hXs, hbl, hbA, hL⟩ := lc
  have cx' := cx
  obtain ⟨hx, hb, hr, hlk, hml, hown, hts, hK, hA, hXX, hnm⟩ := cx'
  have hX := XE.ok (D := D) (cs := cs) (wi := w0)
  obtain ⟨ans, wm2, rm0, rm9, b0, b9, M0, M9⟩ := L_drop (l := l) (D := D) (cs := cs) hR (xs (Int32.ofNat (6 * i) + 1).toNatClampNeg)
  obtain ⟨r1, r2, r3, r4⟩ := rb_spec b0
  obtain ⟨q1, q2, q3, q4⟩ := rb_spec b9
  refine lv_aload_n hx hb dL_law_345 rfl (lv_at hl 2 rfl) ?_
  refine lv_aload_n hx hb dL_law_346 rfl (lv_at hl 3 rfl) ?_
  refine lv_iload_n hx hb dL_law_347 rfl (lv_at hl 0 rfl) ?_
  refine lv_iconst (v := 1) hx hb dL_law_348 (by decide) ?_
  refine lv_iadd hx hb dL_law_349 ?_
  refine va_sld hx hb hXs hbl hbA hw.2.2 (sc_in hi hL (k := 1) (by decide)) dL_law_350 ?_
  refine x_VIH (wr := wm) (rest := []) [.int (xs (Int32.ofNat (6 * i) + 1).toNatClampNeg)] hX cx hw hl.1 M0 (lw_VW q495 q496 q497 q82 q498) hd_X0_drop ⟨by show _ ≤ 8192; omega, by show _ ≤ 104096; omega⟩ (rm_recv0 hK hw.1 hR) rfl rfl (Nat.le_of_ble_eq_true rfl) dL_law_351 (List.range ws.length) (List.range' ws.length wm.length) (rg_nd0 _) (rg_pre ws wm) (rg_map ws wm _ rfl) (rg_nd _ _) (rg_dis _ _) ⟨by show _ ≤ 603072; omega, by show _ ≤ 7262314; omega⟩ (fun r u H locs hp hw => ?_)
  obtain ⟨rfl, hR2⟩ := hp
  refine lv_aload_n hx hb dL_law_354 rfl (lv_at hl 1 rfl) ?_
  refine lv_aload_n hx hb dL_law_355 rfl (lv_at hl 3 rfl) ?_
  refine lv_iload_n hx hb dL_law_356 rfl (lv_at hl 0 rfl) ?_
  refine lv_iconst (v := 1) hx hb dL_law_357 (by decide) ?_
  refine lv_iadd hx hb dL_law_358 ?_
  refine va_sld hx hb hXs hbl hbA hw.2.2 (sc_in hi hL (k := 1) (by decide)) dL_law_359 ?_
  refine x_VI (wr := u) (rest := [.int r]) [.int (xs (Int32.ofNat (6 * i) + 1).toNatClampNeg)] hX cx hw hl.1 M9 (lw_V q1337 q1338 q1339 q94 q1340) hd_X9_drop ⟨by show _ ≤ 8192; omega, by show _ ≤ 104096; omega⟩ (rm_recv9 hK hw.1 hR) rfl rfl (Nat.le_of_ble_eq_true rfl) dL_law_360 (List.range wm.length) (List.range' wm.length u.length) (rg_nd0 _) (rg_pre wm u) (rg_map wm u _ rfl) (rg_nd _ _) (rg_dis _ _) ⟨by show _ ≤ 603072; omega, by show _ ≤ 7262314; omega⟩ (fun r9 u9 H locs hp hw => ?_)
  subst hp
  refine lv_icmp_eq (tgt := 1288) hx hb dL_law_363 (by decide) (fun c9 => ?_) (fun c9 => ?_)
  · exact kk u wm2 H locs _ _ hR2 (by omega) (by omega) hw
  · exact absurd rfl c9
theorem lw_c_feed (lc : LC l p s m args meth c D d A cs w0 b L xs nm) (hi : 6 * i + 6 ≤ L) (hR : RM d sa ha ta ad w0 ws wm) (hc : cells ≤ 590000) (hsl : slots ≤ 7100000) (hw : Wd D A s (ws ++ wm) H locs) (hl : lv_has ls 4 [(3, .int (Int32.ofNat (6 * i))), (2, .ref (ad 0)), (1, .ref (sa 0)), (0, .ref b)]) (kk : ∀ (ws2 wm2 : va_W) (H1 : Heap) (locs1 : List Loc) (c1 s1 : Nat), RM d sa ha ta ad w0 ws2 wm2 → c1 ≤ cells + 8000 → s1 ≤ slots + 100000 → Wd D A s (ws2 ++ wm2) H1 locs1 → W p l e room_1 s m args below meth c H1 locs1 c1 s1 Q (F0 m 1288 ls [])) : W p l e room_1 s m args below meth c H locs cells slots Q (F0 m 368 ls []) := by
  obtain ⟨hfl, hs, he, h14, cx, hXs, hbl, hbA, hL⟩ := lc
  have cx' := cx
  obtain ⟨hx, hb, hr, hlk, hml, hown, hts, hK, hA, hXX, hnm⟩ := cx'
  have hX := XE.ok (D := D) (cs := cs) (wi := w0)
  obtain ⟨ans, wm2, rm0, rm9, b0, b9, M0, M9⟩ := L_feed (l := l) (D := D) (cs := cs) hR (xs (Int32.ofNat (6 * i) + 1).toNatClampNeg)
  obtain ⟨r1, r2, r3, r4⟩ := rb_spec b0
  obtain ⟨q1, q2, q3, q4⟩ := rb_spec b9
  refine lv_aload_n hx hb dL_law_368 rfl (lv_at hl 2 rfl) ?_
  refine lv_aload_n hx hb dL_law_369 rfl (lv_at hl 3 rfl) ?_
  refine lv_iload_n hx hb dL_law_370 rfl (lv_at hl 0 rfl) ?_
  refine lv_iconst (v := 1) hx hb dL_law_371 (by decide) ?_
  refine lv_iadd hx hb dL_law_372 ?_
  refine va_sld hx hb hXs hbl hbA hw.2.2 (sc_in hi hL (k := 1) (by decide)) dL_law_373 ?_
  refine x_VI (wr := wm) (rest := []) [.int (xs (Int32.ofNat (6 * i) + 1).toNatClampNeg)] hX cx hw hl.1 M0 (lw_V q499 q500 q501 q82 q502) hd_X0_feed ⟨by show _ ≤ 8192; omega, by show _ ≤ 104096; omega⟩ (rm_recv0 hK hw.1 hR) rfl rfl (Nat.le_of_ble_eq_true rfl) dL_law_374 (List.range ws.length) (List.range' ws.length wm.length) (rg_nd0 _) (rg_pre ws wm) (rg_map ws wm _ rfl) (rg_nd _ _) (rg_dis _ _) ⟨by show _ ≤ 603072; omega, by show _ ≤ 7262314; omega⟩ (fun r u H locs hp hw => ?_)
  obtain ⟨rfl, hR2⟩ := hp
  refine lv_aload_n hx hb dL_law_377 rfl (lv_at hl 1 rfl) ?_
  refine lv_aload_n hx hb dL_law_378 rfl (lv_at hl 3 rfl) ?_
  refine lv_iload_n hx hb dL_law_379 rfl (lv_at hl 0 rfl) ?_
  refine lv_iconst (v := 1) hx hb dL_law_380 (by decide) ?_
  refine lv_iadd hx hb dL_law_381 ?_
  refine va_sld hx hb hXs hbl hbA hw.2.2 (sc_in hi hL (k := 1) (by decide)) dL_law_382 ?_
  refine x_VI (wr := u) (rest := [.int r]) [.int (xs (Int32.ofNat (6 * i) + 1).toNatClampNeg)] hX cx hw hl.1 M9 (lw_V q1341 q1342 q1343 q94 q1344) hd_X9_feed ⟨by show _ ≤ 8192; omega, by show _ ≤ 104096; omega⟩ (rm_recv9 hK hw.1 hR) rfl rfl (Nat.le_of_ble_eq_true rfl) dL_law_383 (List.range wm.length) (List.range' wm.length u.length) (rg_nd0 _) (rg_pre wm u) (rg_map wm u _ rfl) (rg_nd _ _) (rg_dis _ _) ⟨by show _ ≤ 603072; omega, by show _ ≤ 7262314; omega⟩ (fun r9 u9 H locs hp hw => ?_)
  subst hp
  refine lv_icmp_eq (tgt := 1288) hx hb dL_law_386 (by decide) (fun c9 => ?_) (fun c9 => ?_)
  · exact kk u wm2 H locs _ _ hR2 (by omega) (by omega) hw
  · exact absurd rfl c9
theorem lw_c_house (lc : LC l p s m args meth c D d A cs w0 b L xs nm) (hi : 6 * i + 6 ≤ L) (hR : RM d sa ha ta ad w0 ws wm) (hc : cells ≤ 590000) (hsl : slots ≤ 7100000) (hw : Wd D A s (ws ++ wm) H locs) (hl : lv_has ls 4 [(3, .int (Int32.ofNat (6 * i))), (2, .ref (ad 0)), (1, .ref (sa 0)), (0, .ref b)]) (kk : ∀ (ws2 wm2 : va_W) (H1 : Heap) (locs1 : List Loc) (c1 s1 : Nat), RM d sa ha ta ad w0 ws2 wm2 → c1 ≤ cells + 8000 → s1 ≤ slots + 100000 → Wd D A s (ws2 ++ wm2) H1 locs1 → W p l e room_1 s m args below meth c H1 locs1 c1 s1 Q (F0 m 1288 ls [])) : W p l e room_1 s m args below meth c H locs cells slots Q (F0 m 391 ls []) := by
  obtain ⟨hfl, hs, he, h14, cx, hXs, hbl, hbA, hL⟩ := lc
  have cx' := cx
  obtain ⟨hx, hb, hr, hlk, hml, hown, hts, hK, hA, hXX, hnm⟩ := cx'
  have hX := XE.ok (D := D) (cs := cs) (wi := w0)
  obtain ⟨ans, wm2, rm0, rm9, b0, b9, M0, M9⟩ := L_house (l := l) (D := D) (cs := cs) hs he h14 hR
  obtain ⟨r1, r2, r3, r4⟩ := rb_spec b0
  obtain ⟨q1, q2, q3, q4⟩ := rb_spec b9
  refine lv_aload_n hx hb dL_law_391 rfl (lv_at hl 2 rfl) ?_
  refine x_VIH (wr := wm) (rest := []) [] hX cx hw hl.1 M0 (lw_VW q505 q506 q507 q82 q508) hd_X0_house ⟨by show _ ≤ 8192; omega, by show _ ≤ 104096; omega⟩ (rm_recv0 hK hw.1 hR) rfl rfl (Nat.le_of_ble_eq_true rfl) dL_law_392 (List.range ws.length) (List.range' ws.length wm.length) (rg_nd0 _) (rg_pre ws wm) (rg_map ws wm _ rfl) (rg_nd _ _) (rg_dis _ _) ⟨by show _ ≤ 603072; omega, by show _ ≤ 7262314; omega⟩ (fun r u H locs hp hw => ?_)
  obtain ⟨rfl, hR2⟩ := hp
  refine lv_aload_n hx hb dL_law_395 rfl (lv_at hl 1 rfl) ?_
  refine x_VI (wr := u) (rest := [.int r]) [] hX cx hw hl.1 M9 (lw_V q1347 q1348 q1349 q94 q1350) hd_X9_house ⟨by show _ ≤ 8192; omega, by show _ ≤ 104096; omega⟩ (rm_recv9 hK hw.1 hR) rfl rfl (Nat.le_of_ble_eq_true rfl) dL_law_396 (List.range wm.length) (List.range' wm.length u.length) (rg_nd0 _) (rg_pre wm u) (rg_map wm u _ rfl) (rg_nd _ _) (rg_dis _ _) ⟨by show _ ≤ 603072; omega, by show _ ≤ 7262314; omega⟩ (fun r9 u9 H locs hp hw => ?_)
  subst hp
  refine lv_icmp_eq (tgt := 1288) hx hb dL_law_399 (by decide) (fun c9 => ?_) (fun c9 => ?_)
  · exact kk u wm2 H locs _ _ hR2 (by omega) (by omega) hw
  · exact absurd rfl c9
theorem lw_c_fault (lc : LC l p s m args meth c D d A cs w0 b L xs nm) (hi : 6 * i + 6 ≤ L) (hR : RM d sa ha ta ad w0 ws wm) (hc : cells ≤ 590000) (hsl : slots ≤ 7100000) (hw : Wd D A s (ws ++ wm) H locs) (hl : lv_has ls 4 [(3, .int (Int32.ofNat (6 * i))), (2, .ref (ad 0)), (1, .ref (sa 0)), (0, .ref b)]) (kk : ∀ (ws2 wm2 : va_W) (H1 : Heap) (locs1 : List Loc) (c1 s1 : Nat), RM d sa ha ta ad w0 ws2 wm2 → c1 ≤ cells + 8000 → s1 ≤ slots + 100000 → Wd D A s (ws2 ++ wm2) H1 locs1 → W p l e room_1 s m args below meth c H1 locs1 c1 s1 Q (F0 m 1288 ls [])) : W p l e room_1 s m args below meth c H locs cells slots Q (F0 m 404 ls []) := by
  obtain ⟨hfl, hs, he, h14, cx, hXs, hbl, hbA, hL⟩ := lc
  have cx' := cx
  obtain ⟨hx, hb, hr, hlk, hml, hown, hts, hK, hA, hXX, hnm⟩ := cx'
  have hX := XE.ok (D := D) (cs := cs) (wi := w0)
  obtain ⟨ans, wm2, rm0, rm9, b0, b9, M0, M9⟩ := L_fault (l := l) (D := D) (cs := cs) hR
  obtain ⟨r1, r2, r3, r4⟩ := rb_spec b0
  obtain ⟨q1, q2, q3, q4⟩ := rb_spec b9
  refine lv_aload_n hx hb dL_law_404 rfl (lv_at hl 2 rfl) ?_
  refine x_VI (wr := wm) (rest := []) [] hX cx hw hl.1 M0 (lw_V q756 q757 q758 q82 q759) hd_X0_fault ⟨by show _ ≤ 8192; omega, by show _ ≤ 104096; omega⟩ (rm_recv0 hK hw.1 hR) rfl rfl (Nat.le_of_ble_eq_true rfl) dL_law_405 (List.range ws.length) (List.range' ws.length wm.length) (rg_nd0 _) (rg_pre ws wm) (rg_map ws wm _ rfl) (rg_nd _ _) (rg_dis _ _) ⟨by show _ ≤ 603072; omega, by show _ ≤ 7262314; omega⟩ (fun r u H locs hp hw => ?_)
  obtain ⟨rfl, hR2⟩ := hp
  refine lv_aload_n hx hb dL_law_408 rfl (lv_at hl 1 rfl) ?_
  refine x_VI (wr := u) (rest := [.int r]) [] hX cx hw hl.1 M9 (lw_V q1389 q1390 q1391 q94 q1392) hd_X9_fault ⟨by show _ ≤ 8192; omega, by show _ ≤ 104096; omega⟩ (rm_recv9 hK hw.1 hR) rfl rfl (Nat.le_of_ble_eq_true rfl) dL_law_409 (List.range wm.length) (List.range' wm.length u.length) (rg_nd0 _) (rg_pre wm u) (rg_map wm u _ rfl) (rg_nd _ _) (rg_dis _ _) ⟨by show _ ≤ 603072; omega, by show _ ≤ 7262314; omega⟩ (fun r9 u9 H locs hp hw => ?_)
  subst hp
  refine lv_icmp_eq (tgt := 1288) hx hb dL_law_412 (by decide) (fun c9 => ?_) (fun c9 => ?_)
  · exact kk u wm2 H locs _ _ hR2 (by omega) (by omega) hw
  · exact absurd rfl c9
theorem lw_c_undo (lc : LC l p s m args meth c D d A cs w0 b L xs nm) (hi : 6 * i + 6 ≤ L) (hR : RM d sa ha ta ad w0 ws wm) (hc : cells ≤ 590000) (hsl : slots ≤ 7100000) (hw : Wd D A s (ws ++ wm) H locs) (hl : lv_has ls 4 [(3, .int (Int32.ofNat (6 * i))), (2, .ref (ad 0)), (1, .ref (sa 0)), (0, .ref b)]) (kk : ∀ (ws2 wm2 : va_W) (H1 : Heap) (locs1 : List Loc) (c1 s1 : Nat), RM d sa ha ta ad w0 ws2 wm2 → c1 ≤ cells + 8000 → s1 ≤ slots + 100000 → Wd D A s (ws2 ++ wm2) H1 locs1 → W p l e room_1 s m args below meth c H1 locs1 c1 s1 Q (F0 m 1288 ls [])) : W p l e room_1 s m args below meth c H locs cells slots Q (F0 m 417 ls []) := by
  obtain ⟨hfl, hs, he, h14, cx, hXs, hbl, hbA, hL⟩ := lc
  have cx' := cx
  obtain ⟨hx, hb, hr, hlk, hml, hown, hts, hK, hA, hXX, hnm⟩ := cx'
  have hX := XE.ok (D := D) (cs := cs) (wi := w0)
  obtain ⟨ans, wm2, rm0, rm9, b0, b9, M0, M9⟩ := L_undo (l := l) (D := D) (cs := cs) hR
  obtain ⟨r1, r2, r3, r4⟩ := rb_spec b0
  obtain ⟨q1, q2, q3, q4⟩ := rb_spec b9
  refine lv_aload_n hx hb dL_law_417 rfl (lv_at hl 2 rfl) ?_
  refine x_VI (wr := wm) (rest := []) [] hX cx hw hl.1 M0 (lw_V q760 q761 q762 q82 q763) hd_X0_undo ⟨by show _ ≤ 8192; omega, by show _ ≤ 104096; omega⟩ (rm_recv0 hK hw.1 hR) rfl rfl (Nat.le_of_ble_eq_true rfl) dL_law_418 (List.range ws.length) (List.range' ws.length wm.length) (rg_nd0 _) (rg_pre ws wm) (rg_map ws wm _ rfl) (rg_nd _ _) (rg_dis _ _) ⟨by show _ ≤ 603072; omega, by show _ ≤ 7262314; omega⟩ (fun r u H locs hp hw => ?_)
  obtain ⟨rfl, hR2⟩ := hp
  refine lv_aload_n hx hb dL_law_421 rfl (lv_at hl 1 rfl) ?_
  refine x_VI (wr := u) (rest := [.int r]) [] hX cx hw hl.1 M9 (lw_V q1393 q1394 q1395 q94 q1396) hd_X9_undo ⟨by show _ ≤ 8192; omega, by show _ ≤ 104096; omega⟩ (rm_recv9 hK hw.1 hR) rfl rfl (Nat.le_of_ble_eq_true rfl) dL_law_422 (List.range wm.length) (List.range' wm.length u.length) (rg_nd0 _) (rg_pre wm u) (rg_map wm u _ rfl) (rg_nd _ _) (rg_dis _ _) ⟨by show _ ≤ 603072; omega, by show _ ≤ 7262314; omega⟩ (fun r9 u9 H locs hp hw => ?_)
  subst hp
  refine lv_icmp_eq (tgt := 1288) hx hb dL_law_425 (by decide) (fun c9 => ?_) (fun c9 => ?_)
  · exact kk u wm2 H locs _ _ hR2 (by omega) (by omega) hw
  · exact absurd rfl c9
theorem lw_c_minutes (lc : LC l p s m args meth c D d A cs w0 b L xs nm) (hi : 6 * i + 6 ≤ L) (hR : RM d sa ha ta ad w0 ws wm) (hc : cells ≤ 590000) (hsl : slots ≤ 7100000) (hw : Wd D A s (ws ++ wm) H locs) (hl : lv_has ls 4 [(3, .int (Int32.ofNat (6 * i))), (2, .ref (ad 0)), (1, .ref (sa 0)), (0, .ref b)]) (kk : ∀ (ws2 wm2 : va_W) (H1 : Heap) (locs1 : List Loc) (c1 s1 : Nat), RM d sa ha ta ad w0 ws2 wm2 → c1 ≤ cells + 8000 → s1 ≤ slots + 100000 → Wd D A s (ws2 ++ wm2) H1 locs1 → W p l e room_1 s m args below meth c H1 locs1 c1 s1 Q (F0 m 1288 ls [])) : W p l e room_1 s m args below meth c H locs cells slots Q (F0 m 430 ls []) := by
  obtain ⟨hfl, hs, he, h14, cx, hXs, hbl, hbA, hL⟩ := lc
  have cx' := cx
  obtain ⟨hx, hb, hr, hlk, hml, hown, hts, hK, hA, hXX, hnm⟩ := cx'
  have hX := XE.ok (D := D) (cs := cs) (wi := w0)
  obtain ⟨ans, wm2, rm0, rm9, b0, b9, M0, M9⟩ := L_minutes (l := l) (D := D) (cs := cs) hR (xs (Int32.ofNat (6 * i) + 1).toNatClampNeg)
  obtain ⟨r1, r2, r3, r4⟩ := rb_spec b0
  obtain ⟨q1, q2, q3, q4⟩ := rb_spec b9
  refine lv_aload_n hx hb dL_law_430 rfl (lv_at hl 2 rfl) ?_
  refine lv_aload_n hx hb dL_law_431 rfl (lv_at hl 3 rfl) ?_
  refine lv_iload_n hx hb dL_law_432 rfl (lv_at hl 0 rfl) ?_
  refine lv_iconst (v := 1) hx hb dL_law_433 (by decide) ?_
  refine lv_iadd hx hb dL_law_434 ?_
  refine va_sld hx hb hXs hbl hbA hw.2.2 (sc_in hi hL (k := 1) (by decide)) dL_law_435 ?_
  refine x_VI (wr := wm) (rest := []) [.int (xs (Int32.ofNat (6 * i) + 1).toNatClampNeg)] hX cx hw hl.1 M0 (lw_V q765 q766 q767 q82 q768) hd_X0_minutes ⟨by show _ ≤ 8192; omega, by show _ ≤ 104096; omega⟩ (rm_recv0 hK hw.1 hR) rfl rfl (Nat.le_of_ble_eq_true rfl) dL_law_436 (List.range ws.length) (List.range' ws.length wm.length) (rg_nd0 _) (rg_pre ws wm) (rg_map ws wm _ rfl) (rg_nd _ _) (rg_dis _ _) ⟨by show _ ≤ 603072; omega, by show _ ≤ 7262314; omega⟩ (fun r u H locs hp hw => ?_)
  obtain ⟨rfl, hR2⟩ := hp
  refine lv_aload_n hx hb dL_law_439 rfl (lv_at hl 1 rfl) ?_
  refine lv_aload_n hx hb dL_law_440 rfl (lv_at hl 3 rfl) ?_
  refine lv_iload_n hx hb dL_law_441 rfl (lv_at hl 0 rfl) ?_
  refine lv_iconst (v := 1) hx hb dL_law_442 (by decide) ?_
  refine lv_iadd hx hb dL_law_443 ?_
  refine va_sld hx hb hXs hbl hbA hw.2.2 (sc_in hi hL (k := 1) (by decide)) dL_law_444 ?_
  refine x_VI (wr := u) (rest := [.int r]) [.int (xs (Int32.ofNat (6 * i) + 1).toNatClampNeg)] hX cx hw hl.1 M9 (lw_V q1398 q1399 q1400 q94 q1401) hd_X9_minutes ⟨by show _ ≤ 8192; omega, by show _ ≤ 104096; omega⟩ (rm_recv9 hK hw.1 hR) rfl rfl (Nat.le_of_ble_eq_true rfl) dL_law_445 (List.range wm.length) (List.range' wm.length u.length) (rg_nd0 _) (rg_pre wm u) (rg_map wm u _ rfl) (rg_nd _ _) (rg_dis _ _) ⟨by show _ ≤ 603072; omega, by show _ ≤ 7262314; omega⟩ (fun r9 u9 H locs hp hw => ?_)
  subst hp
  refine lv_icmp_eq (tgt := 1288) hx hb dL_law_448 (by decide) (fun c9 => ?_) (fun c9 => ?_)
  · exact kk u wm2 H locs _ _ hR2 (by omega) (by omega) hw
  · exact absurd rfl c9
theorem lw_c_pull (lc : LC l p s m args meth c D d A cs w0 b L xs nm) (hi : 6 * i + 6 ≤ L) (hR : RM d sa ha ta ad w0 ws wm) (hc : cells ≤ 590000) (hsl : slots ≤ 7100000) (hw : Wd D A s (ws ++ wm) H locs) (hl : lv_has ls 4 [(3, .int (Int32.ofNat (6 * i))), (2, .ref (ad 0)), (1, .ref (sa 0)), (0, .ref b)]) (kk : ∀ (ws2 wm2 : va_W) (H1 : Heap) (locs1 : List Loc) (c1 s1 : Nat), RM d sa ha ta ad w0 ws2 wm2 → c1 ≤ cells + 8000 → s1 ≤ slots + 100000 → Wd D A s (ws2 ++ wm2) H1 locs1 → W p l e room_1 s m args below meth c H1 locs1 c1 s1 Q (F0 m 1288 ls [])) : W p l e room_1 s m args below meth c H locs cells slots Q (F0 m 453 ls []) := by
  obtain ⟨hfl, hs, he, h14, cx, hXs, hbl, hbA, hL⟩ := lc
  have cx' := cx
  obtain ⟨hx, hb, hr, hlk, hml, hown, hts, hK, hA, hXX, hnm⟩ := cx'
  have hX := XE.ok (D := D) (cs := cs) (wi := w0)
  obtain ⟨ans, wm2, rm0, rm9, b0, b9, M0, M9⟩ := L_pull (l := l) (D := D) (cs := cs) hR (xs (Int32.ofNat (6 * i) + 1).toNatClampNeg)
  obtain ⟨r1, r2, r3, r4⟩ := rb_spec b0
  obtain ⟨q1, q2, q3, q4⟩ := rb_spec b9
  refine lv_aload_n hx hb dL_law_453 rfl (lv_at hl 2 rfl) ?_
  refine lv_aload_n hx hb dL_law_454 rfl (lv_at hl 3 rfl) ?_
  refine lv_iload_n hx hb dL_law_455 rfl (lv_at hl 0 rfl) ?_
  refine lv_iconst (v := 1) hx hb dL_law_456 (by decide) ?_
  refine lv_iadd hx hb dL_law_457 ?_
  refine va_sld hx hb hXs hbl hbA hw.2.2 (sc_in hi hL (k := 1) (by decide)) dL_law_458 ?_
  refine x_VI (wr := wm) (rest := []) [.int (xs (Int32.ofNat (6 * i) + 1).toNatClampNeg)] hX cx hw hl.1 M0 (lw_V q868 q869 q870 q82 q871) hd_X0_pull ⟨by show _ ≤ 8192; omega, by show _ ≤ 104096; omega⟩ (rm_recv0 hK hw.1 hR) rfl rfl (Nat.le_of_ble_eq_true rfl) dL_law_459 (List.range ws.length) (List.range' ws.length wm.length) (rg_nd0 _) (rg_pre ws wm) (rg_map ws wm _ rfl) (rg_nd _ _) (rg_dis _ _) ⟨by show _ ≤ 603072; omega, by show _ ≤ 7262314; omega⟩ (fun r u H locs hp hw => ?_)
  obtain ⟨rfl, hR2⟩ := hp
  refine lv_aload_n hx hb dL_law_462 rfl (lv_at hl 1 rfl) ?_
  refine lv_aload_n hx hb dL_law_463 rfl (lv_at hl 3 rfl) ?_
  refine lv_iload_n hx hb dL_law_464 rfl (lv_at hl 0 rfl) ?_
  refine lv_iconst (v := 1) hx hb dL_law_465 (by decide) ?_
  refine lv_iadd hx hb dL_law_466 ?_
  refine va_sld hx hb hXs hbl hbA hw.2.2 (sc_in hi hL (k := 1) (by decide)) dL_law_467 ?_
  refine x_VI (wr := u) (rest := [.int r]) [.int (xs (Int32.ofNat (6 * i) + 1).toNatClampNeg)] hX cx hw hl.1 M9 (lw_V q1453 q1454 q1455 q94 q1456) hd_X9_pull ⟨by show _ ≤ 8192; omega, by show _ ≤ 104096; omega⟩ (rm_recv9 hK hw.1 hR) rfl rfl (Nat.le_of_ble_eq_true rfl) dL_law_468 (List.range wm.length) (List.range' wm.length u.length) (rg_nd0 _) (rg_pre wm u) (rg_map wm u _ rfl) (rg_nd _ _) (rg_dis _ _) ⟨by show _ ≤ 603072; omega, by show _ ≤ 7262314; omega⟩ (fun r9 u9 H locs hp hw => ?_)
  subst hp
  refine lv_icmp_eq (tgt := 1288) hx hb dL_law_471 (by decide) (fun c9 => ?_) (fun c9 => ?_)
  · exact kk u wm2 H locs _ _ hR2 (by omega) (by omega) hw
  · exact absurd rfl c9
theorem lw_c_rope (lc : LC l p s m args meth c D d A cs w0 b L xs nm) (hi : 6 * i + 6 ≤ L) (hR : RM d sa ha ta ad w0 ws wm) (hc : cells ≤ 590000) (hsl : slots ≤ 7100000) (hw : Wd D A s (ws ++ wm) H locs) (hl : lv_has ls 4 [(3, .int (Int32.ofNat (6 * i))), (2, .ref (ad 0)), (1, .ref (sa 0)), (0, .ref b)]) (kk : ∀ (ws2 wm2 : va_W) (H1 : Heap) (locs1 : List Loc) (c1 s1 : Nat), RM d sa ha ta ad w0 ws2 wm2 → c1 ≤ cells + 8000 → s1 ≤ slots + 100000 → Wd D A s (ws2 ++ wm2) H1 locs1 → W p l e room_1 s m args below meth c H1 locs1 c1 s1 Q (F0 m 1288 ls [])) : W p l e room_1 s m args below meth c H locs cells slots Q (F0 m 476 ls []) := by
  obtain ⟨hfl, hs, he, h14, cx, hXs, hbl, hbA, hL⟩ := lc
  have cx' := cx
  obtain ⟨hx, hb, hr, hlk, hml, hown, hts, hK, hA, hXX, hnm⟩ := cx'
  have hX := XE.ok (D := D) (cs := cs) (wi := w0)
  obtain ⟨ans, wm2, rm0, rm9, b0, b9, M0, M9⟩ := L_rope (l := l) (D := D) (cs := cs) hR (xs (Int32.ofNat (6 * i) + 1).toNatClampNeg)
  obtain ⟨r1, r2, r3, r4⟩ := rb_spec b0
  obtain ⟨q1, q2, q3, q4⟩ := rb_spec b9
  refine lv_aload_n hx hb dL_law_476 rfl (lv_at hl 2 rfl) ?_
  refine lv_aload_n hx hb dL_law_477 rfl (lv_at hl 3 rfl) ?_
  refine lv_iload_n hx hb dL_law_478 rfl (lv_at hl 0 rfl) ?_
  refine lv_iconst (v := 1) hx hb dL_law_479 (by decide) ?_
  refine lv_iadd hx hb dL_law_480 ?_
  refine va_sld hx hb hXs hbl hbA hw.2.2 (sc_in hi hL (k := 1) (by decide)) dL_law_481 ?_
  refine x_VI (wr := wm) (rest := []) [.int (xs (Int32.ofNat (6 * i) + 1).toNatClampNeg)] hX cx hw hl.1 M0 (lw_V q876 q877 q878 q82 q879) hd_X0_rope ⟨by show _ ≤ 8192; omega, by show _ ≤ 104096; omega⟩ (rm_recv0 hK hw.1 hR) rfl rfl (Nat.le_of_ble_eq_true rfl) dL_law_482 (List.range ws.length) (List.range' ws.length wm.length) (rg_nd0 _) (rg_pre ws wm) (rg_map ws wm _ rfl) (rg_nd _ _) (rg_dis _ _) ⟨by show _ ≤ 603072; omega, by show _ ≤ 7262314; omega⟩ (fun r u H locs hp hw => ?_)
  obtain ⟨rfl, hR2⟩ := hp
  refine lv_aload_n hx hb dL_law_485 rfl (lv_at hl 1 rfl) ?_
  refine lv_aload_n hx hb dL_law_486 rfl (lv_at hl 3 rfl) ?_
  refine lv_iload_n hx hb dL_law_487 rfl (lv_at hl 0 rfl) ?_
  refine lv_iconst (v := 1) hx hb dL_law_488 (by decide) ?_
  refine lv_iadd hx hb dL_law_489 ?_
  refine va_sld hx hb hXs hbl hbA hw.2.2 (sc_in hi hL (k := 1) (by decide)) dL_law_490 ?_
  refine x_VI (wr := u) (rest := [.int r]) [.int (xs (Int32.ofNat (6 * i) + 1).toNatClampNeg)] hX cx hw hl.1 M9 (lw_V q1461 q1462 q1463 q94 q1464) hd_X9_rope ⟨by show _ ≤ 8192; omega, by show _ ≤ 104096; omega⟩ (rm_recv9 hK hw.1 hR) rfl rfl (Nat.le_of_ble_eq_true rfl) dL_law_491 (List.range wm.length) (List.range' wm.length u.length) (rg_nd0 _) (rg_pre wm u) (rg_map wm u _ rfl) (rg_nd _ _) (rg_dis _ _) ⟨by show _ ≤ 603072; omega, by show _ ≤ 7262314; omega⟩ (fun r9 u9 H locs hp hw => ?_)
  subst hp
  refine lv_icmp_eq (tgt := 1288) hx hb dL_law_494 (by decide) (fun c9 => ?_) (fun c9 => ?_)
  · exact kk u wm2 H locs _ _ hR2 (by omega) (by omega) hw
  · exact absurd rfl c9
theorem lw_c_room (lc : LC l p s m args meth c D d A cs w0 b L xs nm) (hi : 6 * i + 6 ≤ L) (hR : RM d sa ha ta ad w0 ws wm) (hc : cells ≤ 590000) (hsl : slots ≤ 7100000) (hw : Wd D A s (ws ++ wm) H locs) (hl : lv_has ls 4 [(3, .int (Int32.ofNat (6 * i))), (2, .ref (ad 0)), (1, .ref (sa 0)), (0, .ref b)]) (kk : ∀ (ws2 wm2 : va_W) (H1 : Heap) (locs1 : List Loc) (c1 s1 : Nat), RM d sa ha ta ad w0 ws2 wm2 → c1 ≤ cells + 8000 → s1 ≤ slots + 100000 → Wd D A s (ws2 ++ wm2) H1 locs1 → W p l e room_1 s m args below meth c H1 locs1 c1 s1 Q (F0 m 1288 ls [])) : W p l e room_1 s m args below meth c H locs cells slots Q (F0 m 499 ls []) := by
  obtain ⟨hfl, hs, he, h14, cx, hXs, hbl, hbA, hL⟩ := lc
  have cx' := cx
  obtain ⟨hx, hb, hr, hlk, hml, hown, hts, hK, hA, hXX, hnm⟩ := cx'
  have hX := XE.ok (D := D) (cs := cs) (wi := w0)
  obtain ⟨ans, wm2, rm0, rm9, b0, b9, M0, M9⟩ := L_room (l := l) (D := D) (cs := cs) hR (xs (Int32.ofNat (6 * i) + 1).toNatClampNeg)
  obtain ⟨r1, r2, r3, r4⟩ := rb_spec b0
  obtain ⟨q1, q2, q3, q4⟩ := rb_spec b9
  refine lv_aload_n hx hb dL_law_499 rfl (lv_at hl 2 rfl) ?_
  refine lv_aload_n hx hb dL_law_500 rfl (lv_at hl 3 rfl) ?_
  refine lv_iload_n hx hb dL_law_501 rfl (lv_at hl 0 rfl) ?_
  refine lv_iconst (v := 1) hx hb dL_law_502 (by decide) ?_
  refine lv_iadd hx hb dL_law_503 ?_
  refine va_sld hx hb hXs hbl hbA hw.2.2 (sc_in hi hL (k := 1) (by decide)) dL_law_504 ?_
  refine x_VI (wr := wm) (rest := []) [.int (xs (Int32.ofNat (6 * i) + 1).toNatClampNeg)] hX cx hw hl.1 M0 (lw_V q881 q882 q883 q82 q884) hd_X0_room ⟨by show _ ≤ 8192; omega, by show _ ≤ 104096; omega⟩ (rm_recv0 hK hw.1 hR) rfl rfl (Nat.le_of_ble_eq_true rfl) dL_law_505 (List.range ws.length) (List.range' ws.length wm.length) (rg_nd0 _) (rg_pre ws wm) (rg_map ws wm _ rfl) (rg_nd _ _) (rg_dis _ _) ⟨by show _ ≤ 603072; omega, by show _ ≤ 7262314; omega⟩ (fun r u H locs hp hw => ?_)
  obtain ⟨rfl, hR2⟩ := hp
  refine lv_aload_n hx hb dL_law_508 rfl (lv_at hl 1 rfl) ?_
  refine lv_aload_n hx hb dL_law_509 rfl (lv_at hl 3 rfl) ?_
  refine lv_iload_n hx hb dL_law_510 rfl (lv_at hl 0 rfl) ?_
  refine lv_iconst (v := 1) hx hb dL_law_511 (by decide) ?_
  refine lv_iadd hx hb dL_law_512 ?_
  refine va_sld hx hb hXs hbl hbA hw.2.2 (sc_in hi hL (k := 1) (by decide)) dL_law_513 ?_
  refine x_VI (wr := u) (rest := [.int r]) [.int (xs (Int32.ofNat (6 * i) + 1).toNatClampNeg)] hX cx hw hl.1 M9 (lw_V q1466 q1467 q1468 q94 q1469) hd_X9_room ⟨by show _ ≤ 8192; omega, by show _ ≤ 104096; omega⟩ (rm_recv9 hK hw.1 hR) rfl rfl (Nat.le_of_ble_eq_true rfl) dL_law_514 (List.range wm.length) (List.range' wm.length u.length) (rg_nd0 _) (rg_pre wm u) (rg_map wm u _ rfl) (rg_nd _ _) (rg_dis _ _) ⟨by show _ ≤ 603072; omega, by show _ ≤ 7262314; omega⟩ (fun r9 u9 H locs hp hw => ?_)
  subst hp
  refine lv_icmp_eq (tgt := 1288) hx hb dL_law_517 (by decide) (fun c9 => ?_) (fun c9 => ?_)
  · exact kk u wm2 H locs _ _ hR2 (by omega) (by omega) hw
  · exact absurd rfl c9
theorem lw_c_send (lc : LC l p s m args meth c D d A cs w0 b L xs nm) (hi : 6 * i + 6 ≤ L) (hR : RM d sa ha ta ad w0 ws wm) (hc : cells ≤ 590000) (hsl : slots ≤ 7100000) (hw : Wd D A s (ws ++ wm) H locs) (hl : lv_has ls 4 [(3, .int (Int32.ofNat (6 * i))), (2, .ref (ad 0)), (1, .ref (sa 0)), (0, .ref b)]) (kk : ∀ (ws2 wm2 : va_W) (H1 : Heap) (locs1 : List Loc) (c1 s1 : Nat), RM d sa ha ta ad w0 ws2 wm2 → c1 ≤ cells + 8000 → s1 ≤ slots + 100000 → Wd D A s (ws2 ++ wm2) H1 locs1 → W p l e room_1 s m args below meth c H1 locs1 c1 s1 Q (F0 m 1288 ls [])) : W p l e room_1 s m args below meth c H locs cells slots Q (F0 m 522 ls []) := by
  obtain ⟨hfl, hs, he, h14, cx, hXs, hbl, hbA, hL⟩ := lc
  have cx' := cx
  obtain ⟨hx, hb, hr, hlk, hml, hown, hts, hK, hA, hXX, hnm⟩ := cx'
  have hX := XE.ok (D := D) (cs := cs) (wi := w0)
  obtain ⟨ans, wm2, rm0, rm9, b0, b9, M0, M9⟩ := L_send (l := l) (D := D) (cs := cs) hR (xs (Int32.ofNat (6 * i) + 1).toNatClampNeg) (xs (Int32.ofNat (6 * i) + 2).toNatClampNeg) (xs (Int32.ofNat (6 * i) + 3).toNatClampNeg)
  obtain ⟨r1, r2, r3, r4⟩ := rb_spec b0
  obtain ⟨q1, q2, q3, q4⟩ := rb_spec b9
  refine lv_aload_n hx hb dL_law_522 rfl (lv_at hl 2 rfl) ?_
  refine lv_aload_n hx hb dL_law_523 rfl (lv_at hl 3 rfl) ?_
  refine lv_iload_n hx hb dL_law_524 rfl (lv_at hl 0 rfl) ?_
  refine lv_iconst (v := 1) hx hb dL_law_525 (by decide) ?_
  refine lv_iadd hx hb dL_law_526 ?_
  refine va_sld hx hb hXs hbl hbA hw.2.2 (sc_in hi hL (k := 1) (by decide)) dL_law_527 ?_
  refine lv_aload_n hx hb dL_law_528 rfl (lv_at hl 3 rfl) ?_
  refine lv_iload_n hx hb dL_law_529 rfl (lv_at hl 0 rfl) ?_
  refine lv_iconst (v := 2) hx hb dL_law_530 (by decide) ?_
  refine lv_iadd hx hb dL_law_531 ?_
  refine va_sld hx hb hXs hbl hbA hw.2.2 (sc_in hi hL (k := 2) (by decide)) dL_law_532 ?_
  refine lv_aload_n hx hb dL_law_533 rfl (lv_at hl 3 rfl) ?_
  refine lv_iload_n hx hb dL_law_534 rfl (lv_at hl 0 rfl) ?_
  refine lv_iconst (v := 3) hx hb dL_law_535 (by decide) ?_
  refine lv_iadd hx hb dL_law_536 ?_
  refine va_sld hx hb hXs hbl hbA hw.2.2 (sc_in hi hL (k := 3) (by decide)) dL_law_537 ?_
  refine x_VI (wr := wm) (rest := []) [.int (xs (Int32.ofNat (6 * i) + 1).toNatClampNeg), .int (xs (Int32.ofNat (6 * i) + 2).toNatClampNeg), .int (xs (Int32.ofNat (6 * i) + 3).toNatClampNeg)] hX cx hw hl.1 M0 (lw_V q886 q887 q888 q82 q889) hd_X0_send ⟨by show _ ≤ 8192; omega, by show _ ≤ 104096; omega⟩ (rm_recv0 hK hw.1 hR) rfl rfl (Nat.le_of_ble_eq_true rfl) dL_law_538 (List.range ws.length) (List.range' ws.length wm.length) (rg_nd0 _) (rg_pre ws wm) (rg_map ws wm _ rfl) (rg_nd _ _) (rg_dis _ _) ⟨by show _ ≤ 603072; omega, by show _ ≤ 7262314; omega⟩ (fun r u H locs hp hw => ?_)
  obtain ⟨rfl, hR2⟩ := hp
  refine lv_aload_n hx hb dL_law_541 rfl (lv_at hl 1 rfl) ?_
  refine lv_aload_n hx hb dL_law_542 rfl (lv_at hl 3 rfl) ?_
  refine lv_iload_n hx hb dL_law_543 rfl (lv_at hl 0 rfl) ?_
  refine lv_iconst (v := 1) hx hb dL_law_544 (by decide) ?_
  refine lv_iadd hx hb dL_law_545 ?_
  refine va_sld hx hb hXs hbl hbA hw.2.2 (sc_in hi hL (k := 1) (by decide)) dL_law_546 ?_
  refine lv_aload_n hx hb dL_law_547 rfl (lv_at hl 3 rfl) ?_
  refine lv_iload_n hx hb dL_law_548 rfl (lv_at hl 0 rfl) ?_
  refine lv_iconst (v := 2) hx hb dL_law_549 (by decide) ?_
  refine lv_iadd hx hb dL_law_550 ?_
  refine va_sld hx hb hXs hbl hbA hw.2.2 (sc_in hi hL (k := 2) (by decide)) dL_law_551 ?_
  refine lv_aload_n hx hb dL_law_552 rfl (lv_at hl 3 rfl) ?_
  refine lv_iload_n hx hb dL_law_553 rfl (lv_at hl 0 rfl) ?_
  refine lv_iconst (v := 3) hx hb dL_law_554 (by decide) ?_
  refine lv_iadd hx hb dL_law_555 ?_
  refine va_sld hx hb hXs hbl hbA hw.2.2 (sc_in hi hL (k := 3) (by decide)) dL_law_556 ?_
  refine x_VI (wr := u) (rest := [.int r]) [.int (xs (Int32.ofNat (6 * i) + 1).toNatClampNeg), .int (xs (Int32.ofNat (6 * i) + 2).toNatClampNeg), .int (xs (Int32.ofNat (6 * i) + 3).toNatClampNeg)] hX cx hw hl.1 M9 (lw_V q1471 q1472 q1473 q94 q1474) hd_X9_send ⟨by show _ ≤ 8192; omega, by show _ ≤ 104096; omega⟩ (rm_recv9 hK hw.1 hR) rfl rfl (Nat.le_of_ble_eq_true rfl) dL_law_557 (List.range wm.length) (List.range' wm.length u.length) (rg_nd0 _) (rg_pre wm u) (rg_map wm u _ rfl) (rg_nd _ _) (rg_dis _ _) ⟨by show _ ≤ 603072; omega, by show _ ≤ 7262314; omega⟩ (fun r9 u9 H locs hp hw => ?_)
  subst hp
  refine lv_icmp_eq (tgt := 1288) hx hb dL_law_560 (by decide) (fun c9 => ?_) (fun c9 => ?_)
  · exact kk u wm2 H locs _ _ hR2 (by omega) (by omega) hw
  · exact absurd rfl c9
theorem lw_c_dish (lc : LC l p s m args meth c D d A cs w0 b L xs nm) (hi : 6 * i + 6 ≤ L) (hR : RM d sa ha ta ad w0 ws wm) (hc : cells ≤ 590000) (hsl : slots ≤ 7100000) (hw : Wd D A s (ws ++ wm) H locs) (hl : lv_has ls 4 [(3, .int (Int32.ofNat (6 * i))), (2, .ref (ad 0)), (1, .ref (sa 0)), (0, .ref b)]) (kk : ∀ (ws2 wm2 : va_W) (H1 : Heap) (locs1 : List Loc) (c1 s1 : Nat), RM d sa ha ta ad w0 ws2 wm2 → c1 ≤ cells + 8000 → s1 ≤ slots + 100000 → Wd D A s (ws2 ++ wm2) H1 locs1 → W p l e room_1 s m args below meth c H1 locs1 c1 s1 Q (F0 m 1288 ls [])) : W p l e room_1 s m args below meth c H locs cells slots Q (F0 m 565 ls []) := by
  obtain ⟨hfl, hs, he, h14, cx, hXs, hbl, hbA, hL⟩ := lc
  have cx' := cx
  obtain ⟨hx, hb, hr, hlk, hml, hown, hts, hK, hA, hXX, hnm⟩ := cx'
  have hX := XE.ok (D := D) (cs := cs) (wi := w0)
  obtain ⟨ans, wm2, rm0, rm9, b0, b9, M0, M9⟩ := L_dish (l := l) (D := D) (cs := cs) hR (xs (Int32.ofNat (6 * i) + 1).toNatClampNeg) (xs (Int32.ofNat (6 * i) + 2).toNatClampNeg)
  obtain ⟨r1, r2, r3, r4⟩ := rb_spec b0
  obtain ⟨q1, q2, q3, q4⟩ := rb_spec b9
  refine lv_aload_n hx hb dL_law_565 rfl (lv_at hl 2 rfl) ?_
  refine lv_aload_n hx hb dL_law_566 rfl (lv_at hl 3 rfl) ?_
  refine lv_iload_n hx hb dL_law_567 rfl (lv_at hl 0 rfl) ?_
  refine lv_iconst (v := 1) hx hb dL_law_568 (by decide) ?_
  refine lv_iadd hx hb dL_law_569 ?_
  refine va_sld hx hb hXs hbl hbA hw.2.2 (sc_in hi hL (k := 1) (by decide)) dL_law_570 ?_
  refine lv_aload_n hx hb dL_law_571 rfl (lv_at hl 3 rfl) ?_
  refine lv_iload_n hx hb dL_law_572 rfl (lv_at hl 0 rfl) ?_
  refine lv_iconst (v := 2) hx hb dL_law_573 (by decide) ?_
  refine lv_iadd hx hb dL_law_574 ?_
  refine va_sld hx hb hXs hbl hbA hw.2.2 (sc_in hi hL (k := 2) (by decide)) dL_law_575 ?_
  refine x_VI (wr := wm) (rest := []) [.int (xs (Int32.ofNat (6 * i) + 1).toNatClampNeg), .int (xs (Int32.ofNat (6 * i) + 2).toNatClampNeg)] hX cx hw hl.1 M0 (lw_V q899 q900 q901 q82 q902) hd_X0_dish ⟨by show _ ≤ 8192; omega, by show _ ≤ 104096; omega⟩ (rm_recv0 hK hw.1 hR) rfl rfl (Nat.le_of_ble_eq_true rfl) dL_law_576 (List.range ws.length) (List.range' ws.length wm.length) (rg_nd0 _) (rg_pre ws wm) (rg_map ws wm _ rfl) (rg_nd _ _) (rg_dis _ _) ⟨by show _ ≤ 603072; omega, by show _ ≤ 7262314; omega⟩ (fun r u H locs hp hw => ?_)
  obtain ⟨rfl, hR2⟩ := hp
  refine lv_aload_n hx hb dL_law_579 rfl (lv_at hl 1 rfl) ?_
  refine lv_aload_n hx hb dL_law_580 rfl (lv_at hl 3 rfl) ?_
  refine lv_iload_n hx hb dL_law_581 rfl (lv_at hl 0 rfl) ?_
  refine lv_iconst (v := 1) hx hb dL_law_582 (by decide) ?_
  refine lv_iadd hx hb dL_law_583 ?_
  refine va_sld hx hb hXs hbl hbA hw.2.2 (sc_in hi hL (k := 1) (by decide)) dL_law_584 ?_
  refine lv_aload_n hx hb dL_law_585 rfl (lv_at hl 3 rfl) ?_
  refine lv_iload_n hx hb dL_law_586 rfl (lv_at hl 0 rfl) ?_
  refine lv_iconst (v := 2) hx hb dL_law_587 (by decide) ?_
  refine lv_iadd hx hb dL_law_588 ?_
  refine va_sld hx hb hXs hbl hbA hw.2.2 (sc_in hi hL (k := 2) (by decide)) dL_law_589 ?_
  refine x_VI (wr := u) (rest := [.int r]) [.int (xs (Int32.ofNat (6 * i) + 1).toNatClampNeg), .int (xs (Int32.ofNat (6 * i) + 2).toNatClampNeg)] hX cx hw hl.1 M9 (lw_V q1484 q1485 q1486 q94 q1487) hd_X9_dish ⟨by show _ ≤ 8192; omega, by show _ ≤ 104096; omega⟩ (rm_recv9 hK hw.1 hR) rfl rfl (Nat.le_of_ble_eq_true rfl) dL_law_590 (List.range wm.length) (List.range' wm.length u.length) (rg_nd0 _) (rg_pre wm u) (rg_map wm u _ rfl) (rg_nd _ _) (rg_dis _ _) ⟨by show _ ≤ 603072; omega, by show _ ≤ 7262314; omega⟩ (fun r9 u9 H locs hp hw => ?_)
  subst hp
  refine lv_icmp_eq (tgt := 1288) hx hb dL_law_593 (by decide) (fun c9 => ?_) (fun c9 => ?_)
  · exact kk u wm2 H locs _ _ hR2 (by omega) (by omega) hw
  · exact absurd rfl c9
theorem lw_c_car (lc : LC l p s m args meth c D d A cs w0 b L xs nm) (hi : 6 * i + 6 ≤ L) (hR : RM d sa ha ta ad w0 ws wm) (hc : cells ≤ 590000) (hsl : slots ≤ 7100000) (hw : Wd D A s (ws ++ wm) H locs) (hl : lv_has ls 4 [(3, .int (Int32.ofNat (6 * i))), (2, .ref (ad 0)), (1, .ref (sa 0)), (0, .ref b)]) (kk : ∀ (ws2 wm2 : va_W) (H1 : Heap) (locs1 : List Loc) (c1 s1 : Nat), RM d sa ha ta ad w0 ws2 wm2 → c1 ≤ cells + 8000 → s1 ≤ slots + 100000 → Wd D A s (ws2 ++ wm2) H1 locs1 → W p l e room_1 s m args below meth c H1 locs1 c1 s1 Q (F0 m 1288 ls [])) : W p l e room_1 s m args below meth c H locs cells slots Q (F0 m 598 ls []) := by
  obtain ⟨hfl, hs, he, h14, cx, hXs, hbl, hbA, hL⟩ := lc
  have cx' := cx
  obtain ⟨hx, hb, hr, hlk, hml, hown, hts, hK, hA, hXX, hnm⟩ := cx'
  have hX := XE.ok (D := D) (cs := cs) (wi := w0)
  obtain ⟨ans, wm2, rm0, rm9, b0, b9, M0, M9⟩ := L_car (l := l) (D := D) (cs := cs) hR (xs (Int32.ofNat (6 * i) + 1).toNatClampNeg)
  obtain ⟨r1, r2, r3, r4⟩ := rb_spec b0
  obtain ⟨q1, q2, q3, q4⟩ := rb_spec b9
  refine lv_aload_n hx hb dL_law_598 rfl (lv_at hl 2 rfl) ?_
  refine lv_aload_n hx hb dL_law_599 rfl (lv_at hl 3 rfl) ?_
  refine lv_iload_n hx hb dL_law_600 rfl (lv_at hl 0 rfl) ?_
  refine lv_iconst (v := 1) hx hb dL_law_601 (by decide) ?_
  refine lv_iadd hx hb dL_law_602 ?_
  refine va_sld hx hb hXs hbl hbA hw.2.2 (sc_in hi hL (k := 1) (by decide)) dL_law_603 ?_
  refine x_VI (wr := wm) (rest := []) [.int (xs (Int32.ofNat (6 * i) + 1).toNatClampNeg)] hX cx hw hl.1 M0 (lw_V q919 q920 q921 q82 q922) hd_X0_car ⟨by show _ ≤ 8192; omega, by show _ ≤ 104096; omega⟩ (rm_recv0 hK hw.1 hR) rfl rfl (Nat.le_of_ble_eq_true rfl) dL_law_604 (List.range ws.length) (List.range' ws.length wm.length) (rg_nd0 _) (rg_pre ws wm) (rg_map ws wm _ rfl) (rg_nd _ _) (rg_dis _ _) ⟨by show _ ≤ 603072; omega, by show _ ≤ 7262314; omega⟩ (fun r u H locs hp hw => ?_)
  obtain ⟨rfl, hR2⟩ := hp
  refine lv_aload_n hx hb dL_law_607 rfl (lv_at hl 1 rfl) ?_
  refine lv_aload_n hx hb dL_law_608 rfl (lv_at hl 3 rfl) ?_
  refine lv_iload_n hx hb dL_law_609 rfl (lv_at hl 0 rfl) ?_
  refine lv_iconst (v := 1) hx hb dL_law_610 (by decide) ?_
  refine lv_iadd hx hb dL_law_611 ?_
  refine va_sld hx hb hXs hbl hbA hw.2.2 (sc_in hi hL (k := 1) (by decide)) dL_law_612 ?_
  refine x_VI (wr := u) (rest := [.int r]) [.int (xs (Int32.ofNat (6 * i) + 1).toNatClampNeg)] hX cx hw hl.1 M9 (lw_V q1491 q1492 q1493 q94 q1494) hd_X9_car ⟨by show _ ≤ 8192; omega, by show _ ≤ 104096; omega⟩ (rm_recv9 hK hw.1 hR) rfl rfl (Nat.le_of_ble_eq_true rfl) dL_law_613 (List.range wm.length) (List.range' wm.length u.length) (rg_nd0 _) (rg_pre wm u) (rg_map wm u _ rfl) (rg_nd _ _) (rg_dis _ _) ⟨by show _ ≤ 603072; omega, by show _ ≤ 7262314; omega⟩ (fun r9 u9 H locs hp hw => ?_)
  subst hp
  refine lv_icmp_eq (tgt := 1288) hx hb dL_law_616 (by decide) (fun c9 => ?_) (fun c9 => ?_)
  · exact kk u wm2 H locs _ _ hR2 (by omega) (by omega) hw
  · exact absurd rfl c9
theorem lw_c_ahead (lc : LC l p s m args meth c D d A cs w0 b L xs nm) (hi : 6 * i + 6 ≤ L) (hR : RM d sa ha ta ad w0 ws wm) (hc : cells ≤ 590000) (hsl : slots ≤ 7100000) (hw : Wd D A s (ws ++ wm) H locs) (hl : lv_has ls 4 [(3, .int (Int32.ofNat (6 * i))), (2, .ref (ad 0)), (1, .ref (sa 0)), (0, .ref b)]) (kk : ∀ (ws2 wm2 : va_W) (H1 : Heap) (locs1 : List Loc) (c1 s1 : Nat), RM d sa ha ta ad w0 ws2 wm2 → c1 ≤ cells + 8000 → s1 ≤ slots + 100000 → Wd D A s (ws2 ++ wm2) H1 locs1 → W p l e room_1 s m args below meth c H1 locs1 c1 s1 Q (F0 m 1288 ls [])) : W p l e room_1 s m args below meth c H locs cells slots Q (F0 m 621 ls []) := by
  obtain ⟨hfl, hs, he, h14, cx, hXs, hbl, hbA, hL⟩ := lc
  have cx' := cx
  obtain ⟨hx, hb, hr, hlk, hml, hown, hts, hK, hA, hXX, hnm⟩ := cx'
  have hX := XE.ok (D := D) (cs := cs) (wi := w0)
  obtain ⟨ans, wm2, rm0, rm9, b0, b9, M0, M9⟩ := L_ahead (l := l) (D := D) (cs := cs) hR (xs (Int32.ofNat (6 * i) + 1).toNatClampNeg) (xs (Int32.ofNat (6 * i) + 2).toNatClampNeg) (xs (Int32.ofNat (6 * i) + 3).toNatClampNeg)
  obtain ⟨r1, r2, r3, r4⟩ := rb_spec b0
  obtain ⟨q1, q2, q3, q4⟩ := rb_spec b9
  refine lv_aload_n hx hb dL_law_621 rfl (lv_at hl 2 rfl) ?_
  refine lv_aload_n hx hb dL_law_622 rfl (lv_at hl 3 rfl) ?_
  refine lv_iload_n hx hb dL_law_623 rfl (lv_at hl 0 rfl) ?_
  refine lv_iconst (v := 1) hx hb dL_law_624 (by decide) ?_
  refine lv_iadd hx hb dL_law_625 ?_
  refine va_sld hx hb hXs hbl hbA hw.2.2 (sc_in hi hL (k := 1) (by decide)) dL_law_626 ?_
  refine lv_aload_n hx hb dL_law_627 rfl (lv_at hl 3 rfl) ?_
  refine lv_iload_n hx hb dL_law_628 rfl (lv_at hl 0 rfl) ?_
  refine lv_iconst (v := 2) hx hb dL_law_629 (by decide) ?_
  refine lv_iadd hx hb dL_law_630 ?_
  refine va_sld hx hb hXs hbl hbA hw.2.2 (sc_in hi hL (k := 2) (by decide)) dL_law_631 ?_
  refine lv_aload_n hx hb dL_law_632 rfl (lv_at hl 3 rfl) ?_
  refine lv_iload_n hx hb dL_law_633 rfl (lv_at hl 0 rfl) ?_
  refine lv_iconst (v := 3) hx hb dL_law_634 (by decide) ?_
  refine lv_iadd hx hb dL_law_635 ?_
  refine va_sld hx hb hXs hbl hbA hw.2.2 (sc_in hi hL (k := 3) (by decide)) dL_law_636 ?_
  refine x_VI (wr := wm) (rest := []) [.int (xs (Int32.ofNat (6 * i) + 1).toNatClampNeg), .int (xs (Int32.ofNat (6 * i) + 2).toNatClampNeg), .int (xs (Int32.ofNat (6 * i) + 3).toNatClampNeg)] hX cx hw hl.1 M0 (lw_V q925 q926 q927 q82 q928) hd_X0_ahead ⟨by show _ ≤ 8192; omega, by show _ ≤ 104096; omega⟩ (rm_recv0 hK hw.1 hR) rfl rfl (Nat.le_of_ble_eq_true rfl) dL_law_637 (List.range ws.length) (List.range' ws.length wm.length) (rg_nd0 _) (rg_pre ws wm) (rg_map ws wm _ rfl) (rg_nd _ _) (rg_dis _ _) ⟨by show _ ≤ 603072; omega, by show _ ≤ 7262314; omega⟩ (fun r u H locs hp hw => ?_)
  obtain ⟨rfl, hR2⟩ := hp
  refine lv_aload_n hx hb dL_law_640 rfl (lv_at hl 1 rfl) ?_
  refine lv_aload_n hx hb dL_law_641 rfl (lv_at hl 3 rfl) ?_
  refine lv_iload_n hx hb dL_law_642 rfl (lv_at hl 0 rfl) ?_
  refine lv_iconst (v := 1) hx hb dL_law_643 (by decide) ?_
  refine lv_iadd hx hb dL_law_644 ?_
  refine va_sld hx hb hXs hbl hbA hw.2.2 (sc_in hi hL (k := 1) (by decide)) dL_law_645 ?_
  refine lv_aload_n hx hb dL_law_646 rfl (lv_at hl 3 rfl) ?_
  refine lv_iload_n hx hb dL_law_647 rfl (lv_at hl 0 rfl) ?_
  refine lv_iconst (v := 2) hx hb dL_law_648 (by decide) ?_
  refine lv_iadd hx hb dL_law_649 ?_
  refine va_sld hx hb hXs hbl hbA hw.2.2 (sc_in hi hL (k := 2) (by decide)) dL_law_650 ?_
  refine lv_aload_n hx hb dL_law_651 rfl (lv_at hl 3 rfl) ?_
  refine lv_iload_n hx hb dL_law_652 rfl (lv_at hl 0 rfl) ?_
  refine lv_iconst (v := 3) hx hb dL_law_653 (by decide) ?_
  refine lv_iadd hx hb dL_law_654 ?_
  refine va_sld hx hb hXs hbl hbA hw.2.2 (sc_in hi hL (k := 3) (by decide)) dL_law_655 ?_
  refine x_VI (wr := u) (rest := [.int r]) [.int (xs (Int32.ofNat (6 * i) + 1).toNatClampNeg), .int (xs (Int32.ofNat (6 * i) + 2).toNatClampNeg), .int (xs (Int32.ofNat (6 * i) + 3).toNatClampNeg)] hX cx hw hl.1 M9 (lw_V q1495 q1496 q1497 q94 q1498) hd_X9_ahead ⟨by show _ ≤ 8192; omega, by show _ ≤ 104096; omega⟩ (rm_recv9 hK hw.1 hR) rfl rfl (Nat.le_of_ble_eq_true rfl) dL_law_656 (List.range wm.length) (List.range' wm.length u.length) (rg_nd0 _) (rg_pre wm u) (rg_map wm u _ rfl) (rg_nd _ _) (rg_dis _ _) ⟨by show _ ≤ 603072; omega, by show _ ≤ 7262314; omega⟩ (fun r9 u9 H locs hp hw => ?_)
  subst hp
  refine lv_icmp_eq (tgt := 1288) hx hb dL_law_659 (by decide) (fun c9 => ?_) (fun c9 => ?_)
  · exact kk u wm2 H locs _ _ hR2 (by omega) (by omega) hw
  · exact absurd rfl c9
theorem lw_c_later (lc : LC l p s m args meth c D d A cs w0 b L xs nm) (hi : 6 * i + 6 ≤ L) (hR : RM d sa ha ta ad w0 ws wm) (hc : cells ≤ 590000) (hsl : slots ≤ 7100000) (hw : Wd D A s (ws ++ wm) H locs) (hl : lv_has ls 4 [(3, .int (Int32.ofNat (6 * i))), (2, .ref (ad 0)), (1, .ref (sa 0)), (0, .ref b)]) (kk : ∀ (ws2 wm2 : va_W) (H1 : Heap) (locs1 : List Loc) (c1 s1 : Nat), RM d sa ha ta ad w0 ws2 wm2 → c1 ≤ cells + 8000 → s1 ≤ slots + 100000 → Wd D A s (ws2 ++ wm2) H1 locs1 → W p l e room_1 s m args below meth c H1 locs1 c1 s1 Q (F0 m 1288 ls [])) : W p l e room_1 s m args below meth c H locs cells slots Q (F0 m 664 ls []) := by
  obtain ⟨hfl, hs, he, h14, cx, hXs, hbl, hbA, hL⟩ := lc
  have cx' := cx
  obtain ⟨hx, hb, hr, hlk, hml, hown, hts, hK, hA, hXX, hnm⟩ := cx'
  have hX := XE.ok (D := D) (cs := cs) (wi := w0)
  obtain ⟨ans, wm2, rm0, rm9, b0, b9, M0, M9⟩ := L_later (l := l) (D := D) (cs := cs) hR (xs (Int32.ofNat (6 * i) + 1).toNatClampNeg)
  obtain ⟨r1, r2, r3, r4⟩ := rb_spec b0
  obtain ⟨q1, q2, q3, q4⟩ := rb_spec b9
  refine lv_aload_n hx hb dL_law_664 rfl (lv_at hl 2 rfl) ?_
  refine lv_aload_n hx hb dL_law_665 rfl (lv_at hl 3 rfl) ?_
  refine lv_iload_n hx hb dL_law_666 rfl (lv_at hl 0 rfl) ?_
  refine lv_iconst (v := 1) hx hb dL_law_667 (by decide) ?_
  refine lv_iadd hx hb dL_law_668 ?_
  refine va_sld hx hb hXs hbl hbA hw.2.2 (sc_in hi hL (k := 1) (by decide)) dL_law_669 ?_
  refine x_VI (wr := wm) (rest := []) [.int (xs (Int32.ofNat (6 * i) + 1).toNatClampNeg)] hX cx hw hl.1 M0 (lw_V q940 q941 q942 q82 q943) hd_X0_later ⟨by show _ ≤ 8192; omega, by show _ ≤ 104096; omega⟩ (rm_recv0 hK hw.1 hR) rfl rfl (Nat.le_of_ble_eq_true rfl) dL_law_670 (List.range ws.length) (List.range' ws.length wm.length) (rg_nd0 _) (rg_pre ws wm) (rg_map ws wm _ rfl) (rg_nd _ _) (rg_dis _ _) ⟨by show _ ≤ 603072; omega, by show _ ≤ 7262314; omega⟩ (fun r u H locs hp hw => ?_)
  obtain ⟨rfl, hR2⟩ := hp
  refine lv_aload_n hx hb dL_law_673 rfl (lv_at hl 1 rfl) ?_
  refine lv_aload_n hx hb dL_law_674 rfl (lv_at hl 3 rfl) ?_
  refine lv_iload_n hx hb dL_law_675 rfl (lv_at hl 0 rfl) ?_
  refine lv_iconst (v := 1) hx hb dL_law_676 (by decide) ?_
  refine lv_iadd hx hb dL_law_677 ?_
  refine va_sld hx hb hXs hbl hbA hw.2.2 (sc_in hi hL (k := 1) (by decide)) dL_law_678 ?_
  refine x_VI (wr := u) (rest := [.int r]) [.int (xs (Int32.ofNat (6 * i) + 1).toNatClampNeg)] hX cx hw hl.1 M9 (lw_V q1507 q1508 q1509 q94 q1510) hd_X9_later ⟨by show _ ≤ 8192; omega, by show _ ≤ 104096; omega⟩ (rm_recv9 hK hw.1 hR) rfl rfl (Nat.le_of_ble_eq_true rfl) dL_law_679 (List.range wm.length) (List.range' wm.length u.length) (rg_nd0 _) (rg_pre wm u) (rg_map wm u _ rfl) (rg_nd _ _) (rg_dis _ _) ⟨by show _ ≤ 603072; omega, by show _ ≤ 7262314; omega⟩ (fun r9 u9 H locs hp hw => ?_)
  subst hp
  refine lv_icmp_eq (tgt := 1288) hx hb dL_law_682 (by decide) (fun c9 => ?_) (fun c9 => ?_)
  · exact kk u wm2 H locs _ _ hR2 (by omega) (by omega) hw
  · exact absurd rfl c9
theorem lw_c_when (lc : LC l p s m args meth c D d A cs w0 b L xs nm) (hi : 6 * i + 6 ≤ L) (hR : RM d sa ha ta ad w0 ws wm) (hc : cells ≤ 590000) (hsl : slots ≤ 7100000) (hw : Wd D A s (ws ++ wm) H locs) (hl : lv_has ls 4 [(3, .int (Int32.ofNat (6 * i))), (2, .ref (ad 0)), (1, .ref (sa 0)), (0, .ref b)]) (kk : ∀ (ws2 wm2 : va_W) (H1 : Heap) (locs1 : List Loc) (c1 s1 : Nat), RM d sa ha ta ad w0 ws2 wm2 → c1 ≤ cells + 8000 → s1 ≤ slots + 100000 → Wd D A s (ws2 ++ wm2) H1 locs1 → W p l e room_1 s m args below meth c H1 locs1 c1 s1 Q (F0 m 1288 ls [])) : W p l e room_1 s m args below meth c H locs cells slots Q (F0 m 687 ls []) := by
  obtain ⟨hfl, hs, he, h14, cx, hXs, hbl, hbA, hL⟩ := lc
  have cx' := cx
  obtain ⟨hx, hb, hr, hlk, hml, hown, hts, hK, hA, hXX, hnm⟩ := cx'
  have hX := XE.ok (D := D) (cs := cs) (wi := w0)
  obtain ⟨ans, wm2, rm0, rm9, b0, b9, M0, M9⟩ := L_when (l := l) (D := D) (cs := cs) hR (xs (Int32.ofNat (6 * i) + 1).toNatClampNeg)
  obtain ⟨r1, r2, r3, r4⟩ := rb_spec b0
  obtain ⟨q1, q2, q3, q4⟩ := rb_spec b9
  refine lv_aload_n hx hb dL_law_687 rfl (lv_at hl 2 rfl) ?_
  refine lv_aload_n hx hb dL_law_688 rfl (lv_at hl 3 rfl) ?_
  refine lv_iload_n hx hb dL_law_689 rfl (lv_at hl 0 rfl) ?_
  refine lv_iconst (v := 1) hx hb dL_law_690 (by decide) ?_
  refine lv_iadd hx hb dL_law_691 ?_
  refine va_sld hx hb hXs hbl hbA hw.2.2 (sc_in hi hL (k := 1) (by decide)) dL_law_692 ?_
  refine x_VI (wr := wm) (rest := []) [.int (xs (Int32.ofNat (6 * i) + 1).toNatClampNeg)] hX cx hw hl.1 M0 (lw_V q944 q945 q946 q82 q947) hd_X0_when ⟨by show _ ≤ 8192; omega, by show _ ≤ 104096; omega⟩ (rm_recv0 hK hw.1 hR) rfl rfl (Nat.le_of_ble_eq_true rfl) dL_law_693 (List.range ws.length) (List.range' ws.length wm.length) (rg_nd0 _) (rg_pre ws wm) (rg_map ws wm _ rfl) (rg_nd _ _) (rg_dis _ _) ⟨by show _ ≤ 603072; omega, by show _ ≤ 7262314; omega⟩ (fun r u H locs hp hw => ?_)
  obtain ⟨rfl, hR2⟩ := hp
  refine lv_aload_n hx hb dL_law_696 rfl (lv_at hl 1 rfl) ?_
  refine lv_aload_n hx hb dL_law_697 rfl (lv_at hl 3 rfl) ?_
  refine lv_iload_n hx hb dL_law_698 rfl (lv_at hl 0 rfl) ?_
  refine lv_iconst (v := 1) hx hb dL_law_699 (by decide) ?_
  refine lv_iadd hx hb dL_law_700 ?_
  refine va_sld hx hb hXs hbl hbA hw.2.2 (sc_in hi hL (k := 1) (by decide)) dL_law_701 ?_
  refine x_VI (wr := u) (rest := [.int r]) [.int (xs (Int32.ofNat (6 * i) + 1).toNatClampNeg)] hX cx hw hl.1 M9 (lw_V q1511 q1512 q1513 q94 q1514) hd_X9_when ⟨by show _ ≤ 8192; omega, by show _ ≤ 104096; omega⟩ (rm_recv9 hK hw.1 hR) rfl rfl (Nat.le_of_ble_eq_true rfl) dL_law_702 (List.range wm.length) (List.range' wm.length u.length) (rg_nd0 _) (rg_pre wm u) (rg_map wm u _ rfl) (rg_nd _ _) (rg_dis _ _) ⟨by show _ ≤ 603072; omega, by show _ ≤ 7262314; omega⟩ (fun r9 u9 H locs hp hw => ?_)
  subst hp
  refine lv_icmp_eq (tgt := 1288) hx hb dL_law_705 (by decide) (fun c9 => ?_) (fun c9 => ?_)
  · exact kk u wm2 H locs _ _ hR2 (by omega) (by omega) hw
  · exact absurd rfl c9
theorem lw_c_done (lc : LC l p s m args meth c D d A cs w0 b L xs nm) (hi : 6 * i + 6 ≤ L) (hR : RM d sa ha ta ad w0 ws wm) (hc : cells ≤ 590000) (hsl : slots ≤ 7100000) (hw : Wd D A s (ws ++ wm) H locs) (hl : lv_has ls 4 [(3, .int (Int32.ofNat (6 * i))), (2, .ref (ad 0)), (1, .ref (sa 0)), (0, .ref b)]) (kk : ∀ (ws2 wm2 : va_W) (H1 : Heap) (locs1 : List Loc) (c1 s1 : Nat), RM d sa ha ta ad w0 ws2 wm2 → c1 ≤ cells + 8000 → s1 ≤ slots + 100000 → Wd D A s (ws2 ++ wm2) H1 locs1 → W p l e room_1 s m args below meth c H1 locs1 c1 s1 Q (F0 m 1288 ls [])) : W p l e room_1 s m args below meth c H locs cells slots Q (F0 m 710 ls []) := by
  obtain ⟨hfl, hs, he, h14, cx, hXs, hbl, hbA, hL⟩ := lc
  have cx' := cx
  obtain ⟨hx, hb, hr, hlk, hml, hown, hts, hK, hA, hXX, hnm⟩ := cx'
  have hX := XE.ok (D := D) (cs := cs) (wi := w0)
  obtain ⟨ans, wm2, rm0, rm9, b0, b9, M0, M9⟩ := L_done (l := l) (D := D) (cs := cs) hR
  obtain ⟨r1, r2, r3, r4⟩ := rb_spec b0
  obtain ⟨q1, q2, q3, q4⟩ := rb_spec b9
  refine lv_aload_n hx hb dL_law_710 rfl (lv_at hl 2 rfl) ?_
  refine x_VI (wr := wm) (rest := []) [] hX cx hw hl.1 M0 (lw_V q949 q950 q951 q82 q952) hd_X0_done ⟨by show _ ≤ 8192; omega, by show _ ≤ 104096; omega⟩ (rm_recv0 hK hw.1 hR) rfl rfl (Nat.le_of_ble_eq_true rfl) dL_law_711 (List.range ws.length) (List.range' ws.length wm.length) (rg_nd0 _) (rg_pre ws wm) (rg_map ws wm _ rfl) (rg_nd _ _) (rg_dis _ _) ⟨by show _ ≤ 603072; omega, by show _ ≤ 7262314; omega⟩ (fun r u H locs hp hw => ?_)
  obtain ⟨rfl, hR2⟩ := hp
  refine lv_aload_n hx hb dL_law_714 rfl (lv_at hl 1 rfl) ?_
  refine x_VI (wr := u) (rest := [.int r]) [] hX cx hw hl.1 M9 (lw_V q1520 q1521 q1522 q94 q1523) hd_X9_done ⟨by show _ ≤ 8192; omega, by show _ ≤ 104096; omega⟩ (rm_recv9 hK hw.1 hR) rfl rfl (Nat.le_of_ble_eq_true rfl) dL_law_715 (List.range wm.length) (List.range' wm.length u.length) (rg_nd0 _) (rg_pre wm u) (rg_map wm u _ rfl) (rg_nd _ _) (rg_dis _ _) ⟨by show _ ≤ 603072; omega, by show _ ≤ 7262314; omega⟩ (fun r9 u9 H locs hp hw => ?_)
  subst hp
  refine lv_icmp_eq (tgt := 1288) hx hb dL_law_718 (by decide) (fun c9 => ?_) (fun c9 => ?_)
  · exact kk u wm2 H locs _ _ hR2 (by omega) (by omega) hw
  · exact absurd rfl c9
theorem lw_c_fine (lc : LC l p s m args meth c D d A cs w0 b L xs nm) (hi : 6 * i + 6 ≤ L) (hR : RM d sa ha ta ad w0 ws wm) (hc : cells ≤ 590000) (hsl : slots ≤ 7100000) (hw : Wd D A s (ws ++ wm) H locs) (hl : lv_has ls 4 [(3, .int (Int32.ofNat (6 * i))), (2, .ref (ad 0)), (1, .ref (sa 0)), (0, .ref b)]) (kk : ∀ (ws2 wm2 : va_W) (H1 : Heap) (locs1 : List Loc) (c1 s1 : Nat), RM d sa ha ta ad w0 ws2 wm2 → c1 ≤ cells + 8000 → s1 ≤ slots + 100000 → Wd D A s (ws2 ++ wm2) H1 locs1 → W p l e room_1 s m args below meth c H1 locs1 c1 s1 Q (F0 m 1288 ls [])) : W p l e room_1 s m args below meth c H locs cells slots Q (F0 m 723 ls []) := by
  obtain ⟨hfl, hs, he, h14, cx, hXs, hbl, hbA, hL⟩ := lc
  have cx' := cx
  obtain ⟨hx, hb, hr, hlk, hml, hown, hts, hK, hA, hXX, hnm⟩ := cx'
  have hX := XE.ok (D := D) (cs := cs) (wi := w0)
  obtain ⟨ans, wm2, rm0, rm9, b0, b9, M0, M9⟩ := L_fine (l := l) (D := D) (cs := cs) hR (xs (Int32.ofNat (6 * i) + 1).toNatClampNeg)
  obtain ⟨r1, r2, r3, r4⟩ := rb_spec b0
  obtain ⟨q1, q2, q3, q4⟩ := rb_spec b9
  refine lv_aload_n hx hb dL_law_723 rfl (lv_at hl 2 rfl) ?_
  refine lv_aload_n hx hb dL_law_724 rfl (lv_at hl 3 rfl) ?_
  refine lv_iload_n hx hb dL_law_725 rfl (lv_at hl 0 rfl) ?_
  refine lv_iconst (v := 1) hx hb dL_law_726 (by decide) ?_
  refine lv_iadd hx hb dL_law_727 ?_
  refine va_sld hx hb hXs hbl hbA hw.2.2 (sc_in hi hL (k := 1) (by decide)) dL_law_728 ?_
  refine x_VI (wr := wm) (rest := []) [.int (xs (Int32.ofNat (6 * i) + 1).toNatClampNeg)] hX cx hw hl.1 M0 (lw_V q957 q958 q959 q82 q960) hd_X0_fine ⟨by show _ ≤ 8192; omega, by show _ ≤ 104096; omega⟩ (rm_recv0 hK hw.1 hR) rfl rfl (Nat.le_of_ble_eq_true rfl) dL_law_729 (List.range ws.length) (List.range' ws.length wm.length) (rg_nd0 _) (rg_pre ws wm) (rg_map ws wm _ rfl) (rg_nd _ _) (rg_dis _ _) ⟨by show _ ≤ 603072; omega, by show _ ≤ 7262314; omega⟩ (fun r u H locs hp hw => ?_)
  obtain ⟨rfl, hR2⟩ := hp
  refine lv_aload_n hx hb dL_law_732 rfl (lv_at hl 1 rfl) ?_
  refine lv_aload_n hx hb dL_law_733 rfl (lv_at hl 3 rfl) ?_
  refine lv_iload_n hx hb dL_law_734 rfl (lv_at hl 0 rfl) ?_
  refine lv_iconst (v := 1) hx hb dL_law_735 (by decide) ?_
  refine lv_iadd hx hb dL_law_736 ?_
  refine va_sld hx hb hXs hbl hbA hw.2.2 (sc_in hi hL (k := 1) (by decide)) dL_law_737 ?_
  refine x_VI (wr := u) (rest := [.int r]) [.int (xs (Int32.ofNat (6 * i) + 1).toNatClampNeg)] hX cx hw hl.1 M9 (lw_V q1524 q1525 q1526 q94 q1527) hd_X9_fine ⟨by show _ ≤ 8192; omega, by show _ ≤ 104096; omega⟩ (rm_recv9 hK hw.1 hR) rfl rfl (Nat.le_of_ble_eq_true rfl) dL_law_738 (List.range wm.length) (List.range' wm.length u.length) (rg_nd0 _) (rg_pre wm u) (rg_map wm u _ rfl) (rg_nd _ _) (rg_dis _ _) ⟨by show _ ≤ 603072; omega, by show _ ≤ 7262314; omega⟩ (fun r9 u9 H locs hp hw => ?_)
  subst hp
  refine lv_icmp_eq (tgt := 1288) hx hb dL_law_741 (by decide) (fun c9 => ?_) (fun c9 => ?_)
  · exact kk u wm2 H locs _ _ hR2 (by omega) (by omega) hw
  · exact absurd rfl c9
theorem lw_c_site (lc : LC l p s m args meth c D d A cs w0 b L xs nm) (hi : 6 * i + 6 ≤ L) (hR : RM d sa ha ta ad w0 ws wm) (hc : cells ≤ 590000) (hsl : slots ≤ 7100000) (hw : Wd D A s (ws ++ wm) H locs) (hl : lv_has ls 4 [(3, .int (Int32.ofNat (6 * i))), (2, .ref (ad 0)), (1, .ref (sa 0)), (0, .ref b)]) (kk : ∀ (ws2 wm2 : va_W) (H1 : Heap) (locs1 : List Loc) (c1 s1 : Nat), RM d sa ha ta ad w0 ws2 wm2 → c1 ≤ cells + 8000 → s1 ≤ slots + 100000 → Wd D A s (ws2 ++ wm2) H1 locs1 → W p l e room_1 s m args below meth c H1 locs1 c1 s1 Q (F0 m 1288 ls [])) : W p l e room_1 s m args below meth c H locs cells slots Q (F0 m 746 ls []) := by
  obtain ⟨hfl, hs, he, h14, cx, hXs, hbl, hbA, hL⟩ := lc
  have cx' := cx
  obtain ⟨hx, hb, hr, hlk, hml, hown, hts, hK, hA, hXX, hnm⟩ := cx'
  have hX := XE.ok (D := D) (cs := cs) (wi := w0)
  obtain ⟨ans, wm2, rm0, rm9, b0, b9, M0, M9⟩ := L_site (l := l) (D := D) (cs := cs) hR (xs (Int32.ofNat (6 * i) + 1).toNatClampNeg) (xs (Int32.ofNat (6 * i) + 2).toNatClampNeg)
  obtain ⟨r1, r2, r3, r4⟩ := rb_spec b0
  obtain ⟨q1, q2, q3, q4⟩ := rb_spec b9
  refine lv_aload_n hx hb dL_law_746 rfl (lv_at hl 2 rfl) ?_
  refine lv_aload_n hx hb dL_law_747 rfl (lv_at hl 3 rfl) ?_
  refine lv_iload_n hx hb dL_law_748 rfl (lv_at hl 0 rfl) ?_
  refine lv_iconst (v := 1) hx hb dL_law_749 (by decide) ?_
  refine lv_iadd hx hb dL_law_750 ?_
  refine va_sld hx hb hXs hbl hbA hw.2.2 (sc_in hi hL (k := 1) (by decide)) dL_law_751 ?_
  refine lv_aload_n hx hb dL_law_752 rfl (lv_at hl 3 rfl) ?_
  refine lv_iload_n hx hb dL_law_753 rfl (lv_at hl 0 rfl) ?_
  refine lv_iconst (v := 2) hx hb dL_law_754 (by decide) ?_
  refine lv_iadd hx hb dL_law_755 ?_
  refine va_sld hx hb hXs hbl hbA hw.2.2 (sc_in hi hL (k := 2) (by decide)) dL_law_756 ?_
  refine x_VI (wr := wm) (rest := []) [.int (xs (Int32.ofNat (6 * i) + 1).toNatClampNeg), .int (xs (Int32.ofNat (6 * i) + 2).toNatClampNeg)] hX cx hw hl.1 M0 (lw_V q966 q967 q968 q82 q969) hd_X0_site ⟨by show _ ≤ 8192; omega, by show _ ≤ 104096; omega⟩ (rm_recv0 hK hw.1 hR) rfl rfl (Nat.le_of_ble_eq_true rfl) dL_law_757 (List.range ws.length) (List.range' ws.length wm.length) (rg_nd0 _) (rg_pre ws wm) (rg_map ws wm _ rfl) (rg_nd _ _) (rg_dis _ _) ⟨by show _ ≤ 603072; omega, by show _ ≤ 7262314; omega⟩ (fun r u H locs hp hw => ?_)
  obtain ⟨rfl, hR2⟩ := hp
  refine lv_aload_n hx hb dL_law_760 rfl (lv_at hl 1 rfl) ?_
  refine lv_aload_n hx hb dL_law_761 rfl (lv_at hl 3 rfl) ?_
  refine lv_iload_n hx hb dL_law_762 rfl (lv_at hl 0 rfl) ?_
  refine lv_iconst (v := 1) hx hb dL_law_763 (by decide) ?_
  refine lv_iadd hx hb dL_law_764 ?_
  refine va_sld hx hb hXs hbl hbA hw.2.2 (sc_in hi hL (k := 1) (by decide)) dL_law_765 ?_
  refine lv_aload_n hx hb dL_law_766 rfl (lv_at hl 3 rfl) ?_
  refine lv_iload_n hx hb dL_law_767 rfl (lv_at hl 0 rfl) ?_
  refine lv_iconst (v := 2) hx hb dL_law_768 (by decide) ?_
  refine lv_iadd hx hb dL_law_769 ?_
  refine va_sld hx hb hXs hbl hbA hw.2.2 (sc_in hi hL (k := 2) (by decide)) dL_law_770 ?_
  refine x_VI (wr := u) (rest := [.int r]) [.int (xs (Int32.ofNat (6 * i) + 1).toNatClampNeg), .int (xs (Int32.ofNat (6 * i) + 2).toNatClampNeg)] hX cx hw hl.1 M9 (lw_V q1532 q1533 q1534 q94 q1535) hd_X9_site ⟨by show _ ≤ 8192; omega, by show _ ≤ 104096; omega⟩ (rm_recv9 hK hw.1 hR) rfl rfl (Nat.le_of_ble_eq_true rfl) dL_law_771 (List.range wm.length) (List.range' wm.length u.length) (rg_nd0 _) (rg_pre wm u) (rg_map wm u _ rfl) (rg_nd _ _) (rg_dis _ _) ⟨by show _ ≤ 603072; omega, by show _ ≤ 7262314; omega⟩ (fun r9 u9 H locs hp hw => ?_)
  subst hp
  refine lv_icmp_eq (tgt := 1288) hx hb dL_law_774 (by decide) (fun c9 => ?_) (fun c9 => ?_)
  · exact kk u wm2 H locs _ _ hR2 (by omega) (by omega) hw
  · exact absurd rfl c9
theorem lw_c_need (lc : LC l p s m args meth c D d A cs w0 b L xs nm) (hi : 6 * i + 6 ≤ L) (hR : RM d sa ha ta ad w0 ws wm) (hc : cells ≤ 590000) (hsl : slots ≤ 7100000) (hw : Wd D A s (ws ++ wm) H locs) (hl : lv_has ls 4 [(3, .int (Int32.ofNat (6 * i))), (2, .ref (ad 0)), (1, .ref (sa 0)), (0, .ref b)]) (kk : ∀ (ws2 wm2 : va_W) (H1 : Heap) (locs1 : List Loc) (c1 s1 : Nat), RM d sa ha ta ad w0 ws2 wm2 → c1 ≤ cells + 8000 → s1 ≤ slots + 100000 → Wd D A s (ws2 ++ wm2) H1 locs1 → W p l e room_1 s m args below meth c H1 locs1 c1 s1 Q (F0 m 1288 ls [])) : W p l e room_1 s m args below meth c H locs cells slots Q (F0 m 779 ls []) := by
  obtain ⟨hfl, hs, he, h14, cx, hXs, hbl, hbA, hL⟩ := lc
  have cx' := cx
  obtain ⟨hx, hb, hr, hlk, hml, hown, hts, hK, hA, hXX, hnm⟩ := cx'
  have hX := XE.ok (D := D) (cs := cs) (wi := w0)
  obtain ⟨ans, wm2, rm0, rm9, b0, b9, M0, M9⟩ := L_need (l := l) (D := D) (cs := cs) hR (xs (Int32.ofNat (6 * i) + 1).toNatClampNeg) (xs (Int32.ofNat (6 * i) + 2).toNatClampNeg)
  obtain ⟨r1, r2, r3, r4⟩ := rb_spec b0
  obtain ⟨q1, q2, q3, q4⟩ := rb_spec b9
  refine lv_aload_n hx hb dL_law_779 rfl (lv_at hl 2 rfl) ?_
  refine lv_aload_n hx hb dL_law_780 rfl (lv_at hl 3 rfl) ?_
  refine lv_iload_n hx hb dL_law_781 rfl (lv_at hl 0 rfl) ?_
  refine lv_iconst (v := 1) hx hb dL_law_782 (by decide) ?_
  refine lv_iadd hx hb dL_law_783 ?_
  refine va_sld hx hb hXs hbl hbA hw.2.2 (sc_in hi hL (k := 1) (by decide)) dL_law_784 ?_
  refine lv_aload_n hx hb dL_law_785 rfl (lv_at hl 3 rfl) ?_
  refine lv_iload_n hx hb dL_law_786 rfl (lv_at hl 0 rfl) ?_
  refine lv_iconst (v := 2) hx hb dL_law_787 (by decide) ?_
  refine lv_iadd hx hb dL_law_788 ?_
  refine va_sld hx hb hXs hbl hbA hw.2.2 (sc_in hi hL (k := 2) (by decide)) dL_law_789 ?_
  refine x_VI (wr := wm) (rest := []) [.int (xs (Int32.ofNat (6 * i) + 1).toNatClampNeg), .int (xs (Int32.ofNat (6 * i) + 2).toNatClampNeg)] hX cx hw hl.1 M0 (lw_V q978 q979 q980 q82 q981) hd_X0_need ⟨by show _ ≤ 8192; omega, by show _ ≤ 104096; omega⟩ (rm_recv0 hK hw.1 hR) rfl rfl (Nat.le_of_ble_eq_true rfl) dL_law_790 (List.range ws.length) (List.range' ws.length wm.length) (rg_nd0 _) (rg_pre ws wm) (rg_map ws wm _ rfl) (rg_nd _ _) (rg_dis _ _) ⟨by show _ ≤ 603072; omega, by show _ ≤ 7262314; omega⟩ (fun r u H locs hp hw => ?_)
  obtain ⟨rfl, hR2⟩ := hp
  refine lv_aload_n hx hb dL_law_793 rfl (lv_at hl 1 rfl) ?_
  refine lv_aload_n hx hb dL_law_794 rfl (lv_at hl 3 rfl) ?_
  refine lv_iload_n hx hb dL_law_795 rfl (lv_at hl 0 rfl) ?_
  refine lv_iconst (v := 1) hx hb dL_law_796 (by decide) ?_
  refine lv_iadd hx hb dL_law_797 ?_
  refine va_sld hx hb hXs hbl hbA hw.2.2 (sc_in hi hL (k := 1) (by decide)) dL_law_798 ?_
  refine lv_aload_n hx hb dL_law_799 rfl (lv_at hl 3 rfl) ?_
  refine lv_iload_n hx hb dL_law_800 rfl (lv_at hl 0 rfl) ?_
  refine lv_iconst (v := 2) hx hb dL_law_801 (by decide) ?_
  refine lv_iadd hx hb dL_law_802 ?_
  refine va_sld hx hb hXs hbl hbA hw.2.2 (sc_in hi hL (k := 2) (by decide)) dL_law_803 ?_
  refine x_VI (wr := u) (rest := [.int r]) [.int (xs (Int32.ofNat (6 * i) + 1).toNatClampNeg), .int (xs (Int32.ofNat (6 * i) + 2).toNatClampNeg)] hX cx hw hl.1 M9 (lw_V q1536 q1537 q1538 q94 q1539) hd_X9_need ⟨by show _ ≤ 8192; omega, by show _ ≤ 104096; omega⟩ (rm_recv9 hK hw.1 hR) rfl rfl (Nat.le_of_ble_eq_true rfl) dL_law_804 (List.range wm.length) (List.range' wm.length u.length) (rg_nd0 _) (rg_pre wm u) (rg_map wm u _ rfl) (rg_nd _ _) (rg_dis _ _) ⟨by show _ ≤ 603072; omega, by show _ ≤ 7262314; omega⟩ (fun r9 u9 H locs hp hw => ?_)
  subst hp
  refine lv_icmp_eq (tgt := 1288) hx hb dL_law_807 (by decide) (fun c9 => ?_) (fun c9 => ?_)
  · exact kk u wm2 H locs _ _ hR2 (by omega) (by omega) hw
  · exact absurd rfl c9
theorem lw_c_ranks (lc : LC l p s m args meth c D d A cs w0 b L xs nm) (hi : 6 * i + 6 ≤ L) (hR : RM d sa ha ta ad w0 ws wm) (hc : cells ≤ 590000) (hsl : slots ≤ 7100000) (hw : Wd D A s (ws ++ wm) H locs) (hl : lv_has ls 4 [(3, .int (Int32.ofNat (6 * i))), (2, .ref (ad 0)), (1, .ref (sa 0)), (0, .ref b)]) (kk : ∀ (ws2 wm2 : va_W) (H1 : Heap) (locs1 : List Loc) (c1 s1 : Nat), RM d sa ha ta ad w0 ws2 wm2 → c1 ≤ cells + 8000 → s1 ≤ slots + 100000 → Wd D A s (ws2 ++ wm2) H1 locs1 → W p l e room_1 s m args below meth c H1 locs1 c1 s1 Q (F0 m 1288 ls [])) : W p l e room_1 s m args below meth c H locs cells slots Q (F0 m 812 ls []) := by
  obtain ⟨hfl, hs, he, h14, cx, hXs, hbl, hbA, hL⟩ := lc
  have cx' := cx
  obtain ⟨hx, hb, hr, hlk, hml, hown, hts, hK, hA, hXX, hnm⟩ := cx'
  have hX := XE.ok (D := D) (cs := cs) (wi := w0)
  obtain ⟨ans, wm2, rm0, rm9, b0, b9, M0, M9⟩ := L_ranks (l := l) (D := D) (cs := cs) hR (xs (Int32.ofNat (6 * i) + 1).toNatClampNeg) (xs (Int32.ofNat (6 * i) + 2).toNatClampNeg)
  obtain ⟨r1, r2, r3, r4⟩ := rb_spec b0
  obtain ⟨q1, q2, q3, q4⟩ := rb_spec b9
  refine lv_aload_n hx hb dL_law_812 rfl (lv_at hl 2 rfl) ?_
  refine lv_aload_n hx hb dL_law_813 rfl (lv_at hl 3 rfl) ?_
  refine lv_iload_n hx hb dL_law_814 rfl (lv_at hl 0 rfl) ?_
  refine lv_iconst (v := 1) hx hb dL_law_815 (by decide) ?_
  refine lv_iadd hx hb dL_law_816 ?_
  refine va_sld hx hb hXs hbl hbA hw.2.2 (sc_in hi hL (k := 1) (by decide)) dL_law_817 ?_
  refine lv_aload_n hx hb dL_law_818 rfl (lv_at hl 3 rfl) ?_
  refine lv_iload_n hx hb dL_law_819 rfl (lv_at hl 0 rfl) ?_
  refine lv_iconst (v := 2) hx hb dL_law_820 (by decide) ?_
  refine lv_iadd hx hb dL_law_821 ?_
  refine va_sld hx hb hXs hbl hbA hw.2.2 (sc_in hi hL (k := 2) (by decide)) dL_law_822 ?_
  refine x_VI (wr := wm) (rest := []) [.int (xs (Int32.ofNat (6 * i) + 1).toNatClampNeg), .int (xs (Int32.ofNat (6 * i) + 2).toNatClampNeg)] hX cx hw hl.1 M0 (lw_V q982 q983 q984 q82 q985) hd_X0_ranks ⟨by show _ ≤ 8192; omega, by show _ ≤ 104096; omega⟩ (rm_recv0 hK hw.1 hR) rfl rfl (Nat.le_of_ble_eq_true rfl) dL_law_823 (List.range ws.length) (List.range' ws.length wm.length) (rg_nd0 _) (rg_pre ws wm) (rg_map ws wm _ rfl) (rg_nd _ _) (rg_dis _ _) ⟨by show _ ≤ 603072; omega, by show _ ≤ 7262314; omega⟩ (fun r u H locs hp hw => ?_)
  obtain ⟨rfl, hR2⟩ := hp
  refine lv_aload_n hx hb dL_law_826 rfl (lv_at hl 1 rfl) ?_
  refine lv_aload_n hx hb dL_law_827 rfl (lv_at hl 3 rfl) ?_
  refine lv_iload_n hx hb dL_law_828 rfl (lv_at hl 0 rfl) ?_
  refine lv_iconst (v := 1) hx hb dL_law_829 (by decide) ?_
  refine lv_iadd hx hb dL_law_830 ?_
  refine va_sld hx hb hXs hbl hbA hw.2.2 (sc_in hi hL (k := 1) (by decide)) dL_law_831 ?_
  refine lv_aload_n hx hb dL_law_832 rfl (lv_at hl 3 rfl) ?_
  refine lv_iload_n hx hb dL_law_833 rfl (lv_at hl 0 rfl) ?_
  refine lv_iconst (v := 2) hx hb dL_law_834 (by decide) ?_
  refine lv_iadd hx hb dL_law_835 ?_
  refine va_sld hx hb hXs hbl hbA hw.2.2 (sc_in hi hL (k := 2) (by decide)) dL_law_836 ?_
  refine x_VI (wr := u) (rest := [.int r]) [.int (xs (Int32.ofNat (6 * i) + 1).toNatClampNeg), .int (xs (Int32.ofNat (6 * i) + 2).toNatClampNeg)] hX cx hw hl.1 M9 (lw_V q1540 q1541 q1542 q94 q1543) hd_X9_ranks ⟨by show _ ≤ 8192; omega, by show _ ≤ 104096; omega⟩ (rm_recv9 hK hw.1 hR) rfl rfl (Nat.le_of_ble_eq_true rfl) dL_law_837 (List.range wm.length) (List.range' wm.length u.length) (rg_nd0 _) (rg_pre wm u) (rg_map wm u _ rfl) (rg_nd _ _) (rg_dis _ _) ⟨by show _ ≤ 603072; omega, by show _ ≤ 7262314; omega⟩ (fun r9 u9 H locs hp hw => ?_)
  subst hp
  refine lv_icmp_eq (tgt := 1288) hx hb dL_law_840 (by decide) (fun c9 => ?_) (fun c9 => ?_)
  · exact kk u wm2 H locs _ _ hR2 (by omega) (by omega) hw
  · exact absurd rfl c9
theorem lw_c_holds (lc : LC l p s m args meth c D d A cs w0 b L xs nm) (hi : 6 * i + 6 ≤ L) (hR : RM d sa ha ta ad w0 ws wm) (hc : cells ≤ 590000) (hsl : slots ≤ 7100000) (hw : Wd D A s (ws ++ wm) H locs) (hl : lv_has ls 4 [(3, .int (Int32.ofNat (6 * i))), (2, .ref (ad 0)), (1, .ref (sa 0)), (0, .ref b)]) (kk : ∀ (ws2 wm2 : va_W) (H1 : Heap) (locs1 : List Loc) (c1 s1 : Nat), RM d sa ha ta ad w0 ws2 wm2 → c1 ≤ cells + 8000 → s1 ≤ slots + 100000 → Wd D A s (ws2 ++ wm2) H1 locs1 → W p l e room_1 s m args below meth c H1 locs1 c1 s1 Q (F0 m 1288 ls [])) : W p l e room_1 s m args below meth c H locs cells slots Q (F0 m 845 ls []) := by
  obtain ⟨hfl, hs, he, h14, cx, hXs, hbl, hbA, hL⟩ := lc
  have cx' := cx
  obtain ⟨hx, hb, hr, hlk, hml, hown, hts, hK, hA, hXX, hnm⟩ := cx'
  have hX := XE.ok (D := D) (cs := cs) (wi := w0)
  obtain ⟨ans, wm2, rm0, rm9, b0, b9, M0, M9⟩ := L_holds (l := l) (D := D) (cs := cs) hR (xs (Int32.ofNat (6 * i) + 1).toNatClampNeg)
  obtain ⟨r1, r2, r3, r4⟩ := rb_spec b0
  obtain ⟨q1, q2, q3, q4⟩ := rb_spec b9
  refine lv_aload_n hx hb dL_law_845 rfl (lv_at hl 2 rfl) ?_
  refine lv_aload_n hx hb dL_law_846 rfl (lv_at hl 3 rfl) ?_
  refine lv_iload_n hx hb dL_law_847 rfl (lv_at hl 0 rfl) ?_
  refine lv_iconst (v := 1) hx hb dL_law_848 (by decide) ?_
  refine lv_iadd hx hb dL_law_849 ?_
  refine va_sld hx hb hXs hbl hbA hw.2.2 (sc_in hi hL (k := 1) (by decide)) dL_law_850 ?_
  refine x_VI (wr := wm) (rest := []) [.int (xs (Int32.ofNat (6 * i) + 1).toNatClampNeg)] hX cx hw hl.1 M0 (lw_V q998 q999 q1000 q82 q1001) hd_X0_holds ⟨by show _ ≤ 8192; omega, by show _ ≤ 104096; omega⟩ (rm_recv0 hK hw.1 hR) rfl rfl (Nat.le_of_ble_eq_true rfl) dL_law_851 (List.range ws.length) (List.range' ws.length wm.length) (rg_nd0 _) (rg_pre ws wm) (rg_map ws wm _ rfl) (rg_nd _ _) (rg_dis _ _) ⟨by show _ ≤ 603072; omega, by show _ ≤ 7262314; omega⟩ (fun r u H locs hp hw => ?_)
  obtain ⟨rfl, hR2⟩ := hp
  refine lv_aload_n hx hb dL_law_854 rfl (lv_at hl 1 rfl) ?_
  refine lv_aload_n hx hb dL_law_855 rfl (lv_at hl 3 rfl) ?_
  refine lv_iload_n hx hb dL_law_856 rfl (lv_at hl 0 rfl) ?_
  refine lv_iconst (v := 1) hx hb dL_law_857 (by decide) ?_
  refine lv_iadd hx hb dL_law_858 ?_
  refine va_sld hx hb hXs hbl hbA hw.2.2 (sc_in hi hL (k := 1) (by decide)) dL_law_859 ?_
  refine x_VI (wr := u) (rest := [.int r]) [.int (xs (Int32.ofNat (6 * i) + 1).toNatClampNeg)] hX cx hw hl.1 M9 (lw_V q1553 q1554 q1555 q94 q1556) hd_X9_holds ⟨by show _ ≤ 8192; omega, by show _ ≤ 104096; omega⟩ (rm_recv9 hK hw.1 hR) rfl rfl (Nat.le_of_ble_eq_true rfl) dL_law_860 (List.range wm.length) (List.range' wm.length u.length) (rg_nd0 _) (rg_pre wm u) (rg_map wm u _ rfl) (rg_nd _ _) (rg_dis _ _) ⟨by show _ ≤ 603072; omega, by show _ ≤ 7262314; omega⟩ (fun r9 u9 H locs hp hw => ?_)
  subst hp
  refine lv_icmp_eq (tgt := 1288) hx hb dL_law_863 (by decide) (fun c9 => ?_) (fun c9 => ?_)
  · exact kk u wm2 H locs _ _ hR2 (by omega) (by omega) hw
  · exact absurd rfl c9
theorem lw_c_share (lc : LC l p s m args meth c D d A cs w0 b L xs nm) (hi : 6 * i + 6 ≤ L) (hR : RM d sa ha ta ad w0 ws wm) (hc : cells ≤ 590000) (hsl : slots ≤ 7100000) (hw : Wd D A s (ws ++ wm) H locs) (hl : lv_has ls 4 [(3, .int (Int32.ofNat (6 * i))), (2, .ref (ad 0)), (1, .ref (sa 0)), (0, .ref b)]) (kk : ∀ (ws2 wm2 : va_W) (H1 : Heap) (locs1 : List Loc) (c1 s1 : Nat), RM d sa ha ta ad w0 ws2 wm2 → c1 ≤ cells + 8000 → s1 ≤ slots + 100000 → Wd D A s (ws2 ++ wm2) H1 locs1 → W p l e room_1 s m args below meth c H1 locs1 c1 s1 Q (F0 m 1288 ls [])) : W p l e room_1 s m args below meth c H locs cells slots Q (F0 m 868 ls []) := by
  obtain ⟨hfl, hs, he, h14, cx, hXs, hbl, hbA, hL⟩ := lc
  have cx' := cx
  obtain ⟨hx, hb, hr, hlk, hml, hown, hts, hK, hA, hXX, hnm⟩ := cx'
  have hX := XE.ok (D := D) (cs := cs) (wi := w0)
  obtain ⟨ans, wm2, rm0, rm9, b0, b9, M0, M9⟩ := L_share (l := l) (D := D) (cs := cs) hR (xs (Int32.ofNat (6 * i) + 1).toNatClampNeg) (xs (Int32.ofNat (6 * i) + 2).toNatClampNeg)
  obtain ⟨r1, r2, r3, r4⟩ := rb_spec b0
  obtain ⟨q1, q2, q3, q4⟩ := rb_spec b9
  refine lv_aload_n hx hb dL_law_868 rfl (lv_at hl 2 rfl) ?_
  refine lv_aload_n hx hb dL_law_869 rfl (lv_at hl 3 rfl) ?_
  refine lv_iload_n hx hb dL_law_870 rfl (lv_at hl 0 rfl) ?_
  refine lv_iconst (v := 1) hx hb dL_law_871 (by decide) ?_
  refine lv_iadd hx hb dL_law_872 ?_
  refine va_sld hx hb hXs hbl hbA hw.2.2 (sc_in hi hL (k := 1) (by decide)) dL_law_873 ?_
  refine lv_aload_n hx hb dL_law_874 rfl (lv_at hl 3 rfl) ?_
  refine lv_iload_n hx hb dL_law_875 rfl (lv_at hl 0 rfl) ?_
  refine lv_iconst (v := 2) hx hb dL_law_876 (by decide) ?_
  refine lv_iadd hx hb dL_law_877 ?_
  refine va_sld hx hb hXs hbl hbA hw.2.2 (sc_in hi hL (k := 2) (by decide)) dL_law_878 ?_
  refine x_VI (wr := wm) (rest := []) [.int (xs (Int32.ofNat (6 * i) + 1).toNatClampNeg), .int (xs (Int32.ofNat (6 * i) + 2).toNatClampNeg)] hX cx hw hl.1 M0 (lw_V q1009 q1010 q1011 q82 q1012) hd_X0_share ⟨by show _ ≤ 8192; omega, by show _ ≤ 104096; omega⟩ (rm_recv0 hK hw.1 hR) rfl rfl (Nat.le_of_ble_eq_true rfl) dL_law_879 (List.range ws.length) (List.range' ws.length wm.length) (rg_nd0 _) (rg_pre ws wm) (rg_map ws wm _ rfl) (rg_nd _ _) (rg_dis _ _) ⟨by show _ ≤ 603072; omega, by show _ ≤ 7262314; omega⟩ (fun r u H locs hp hw => ?_)
  obtain ⟨rfl, hR2⟩ := hp
  refine lv_aload_n hx hb dL_law_882 rfl (lv_at hl 1 rfl) ?_
  refine lv_aload_n hx hb dL_law_883 rfl (lv_at hl 3 rfl) ?_
  refine lv_iload_n hx hb dL_law_884 rfl (lv_at hl 0 rfl) ?_
  refine lv_iconst (v := 1) hx hb dL_law_885 (by decide) ?_
  refine lv_iadd hx hb dL_law_886 ?_
  refine va_sld hx hb hXs hbl hbA hw.2.2 (sc_in hi hL (k := 1) (by decide)) dL_law_887 ?_
  refine lv_aload_n hx hb dL_law_888 rfl (lv_at hl 3 rfl) ?_
  refine lv_iload_n hx hb dL_law_889 rfl (lv_at hl 0 rfl) ?_
  refine lv_iconst (v := 2) hx hb dL_law_890 (by decide) ?_
  refine lv_iadd hx hb dL_law_891 ?_
  refine va_sld hx hb hXs hbl hbA hw.2.2 (sc_in hi hL (k := 2) (by decide)) dL_law_892 ?_
  refine x_VI (wr := u) (rest := [.int r]) [.int (xs (Int32.ofNat (6 * i) + 1).toNatClampNeg), .int (xs (Int32.ofNat (6 * i) + 2).toNatClampNeg)] hX cx hw hl.1 M9 (lw_V q1557 q1558 q1559 q94 q1560) hd_X9_share ⟨by show _ ≤ 8192; omega, by show _ ≤ 104096; omega⟩ (rm_recv9 hK hw.1 hR) rfl rfl (Nat.le_of_ble_eq_true rfl) dL_law_893 (List.range wm.length) (List.range' wm.length u.length) (rg_nd0 _) (rg_pre wm u) (rg_map wm u _ rfl) (rg_nd _ _) (rg_dis _ _) ⟨by show _ ≤ 603072; omega, by show _ ≤ 7262314; omega⟩ (fun r9 u9 H locs hp hw => ?_)
  subst hp
  refine lv_icmp_eq (tgt := 1288) hx hb dL_law_896 (by decide) (fun c9 => ?_) (fun c9 => ?_)
  · exact kk u wm2 H locs _ _ hR2 (by omega) (by omega) hw
  · exact absurd rfl c9
theorem lw_c_byTurns (lc : LC l p s m args meth c D d A cs w0 b L xs nm) (hi : 6 * i + 6 ≤ L) (hR : RM d sa ha ta ad w0 ws wm) (hc : cells ≤ 590000) (hsl : slots ≤ 7100000) (hw : Wd D A s (ws ++ wm) H locs) (hl : lv_has ls 4 [(3, .int (Int32.ofNat (6 * i))), (2, .ref (ad 0)), (1, .ref (sa 0)), (0, .ref b)]) (kk : ∀ (ws2 wm2 : va_W) (H1 : Heap) (locs1 : List Loc) (c1 s1 : Nat), RM d sa ha ta ad w0 ws2 wm2 → c1 ≤ cells + 8000 → s1 ≤ slots + 100000 → Wd D A s (ws2 ++ wm2) H1 locs1 → W p l e room_1 s m args below meth c H1 locs1 c1 s1 Q (F0 m 1288 ls [])) : W p l e room_1 s m args below meth c H locs cells slots Q (F0 m 901 ls []) := by
  obtain ⟨hfl, hs, he, h14, cx, hXs, hbl, hbA, hL⟩ := lc
  have cx' := cx
  obtain ⟨hx, hb, hr, hlk, hml, hown, hts, hK, hA, hXX, hnm⟩ := cx'
  have hX := XE.ok (D := D) (cs := cs) (wi := w0)
  obtain ⟨ans, wm2, rm0, rm9, b0, b9, M0, M9⟩ := L_byTurns (l := l) (D := D) (cs := cs) hR (xs (Int32.ofNat (6 * i) + 1).toNatClampNeg) (xs (Int32.ofNat (6 * i) + 2).toNatClampNeg)
  obtain ⟨r1, r2, r3, r4⟩ := rb_spec b0
  obtain ⟨q1, q2, q3, q4⟩ := rb_spec b9
  refine lv_aload_n hx hb dL_law_901 rfl (lv_at hl 2 rfl) ?_
  refine lv_aload_n hx hb dL_law_902 rfl (lv_at hl 3 rfl) ?_
  refine lv_iload_n hx hb dL_law_903 rfl (lv_at hl 0 rfl) ?_
  refine lv_iconst (v := 1) hx hb dL_law_904 (by decide) ?_
  refine lv_iadd hx hb dL_law_905 ?_
  refine va_sld hx hb hXs hbl hbA hw.2.2 (sc_in hi hL (k := 1) (by decide)) dL_law_906 ?_
  refine lv_aload_n hx hb dL_law_907 rfl (lv_at hl 3 rfl) ?_
  refine lv_iload_n hx hb dL_law_908 rfl (lv_at hl 0 rfl) ?_
  refine lv_iconst (v := 2) hx hb dL_law_909 (by decide) ?_
  refine lv_iadd hx hb dL_law_910 ?_
  refine va_sld hx hb hXs hbl hbA hw.2.2 (sc_in hi hL (k := 2) (by decide)) dL_law_911 ?_
  refine x_VI (wr := wm) (rest := []) [.int (xs (Int32.ofNat (6 * i) + 1).toNatClampNeg), .int (xs (Int32.ofNat (6 * i) + 2).toNatClampNeg)] hX cx hw hl.1 M0 (lw_V q1018 q1019 q1020 q82 q1021) hd_X0_byTurns ⟨by show _ ≤ 8192; omega, by show _ ≤ 104096; omega⟩ (rm_recv0 hK hw.1 hR) rfl rfl (Nat.le_of_ble_eq_true rfl) dL_law_912 (List.range ws.length) (List.range' ws.length wm.length) (rg_nd0 _) (rg_pre ws wm) (rg_map ws wm _ rfl) (rg_nd _ _) (rg_dis _ _) ⟨by show _ ≤ 603072; omega, by show _ ≤ 7262314; omega⟩ (fun r u H locs hp hw => ?_)
  obtain ⟨rfl, hR2⟩ := hp
  refine lv_aload_n hx hb dL_law_915 rfl (lv_at hl 1 rfl) ?_
  refine lv_aload_n hx hb dL_law_916 rfl (lv_at hl 3 rfl) ?_
  refine lv_iload_n hx hb dL_law_917 rfl (lv_at hl 0 rfl) ?_
  refine lv_iconst (v := 1) hx hb dL_law_918 (by decide) ?_
  refine lv_iadd hx hb dL_law_919 ?_
  refine va_sld hx hb hXs hbl hbA hw.2.2 (sc_in hi hL (k := 1) (by decide)) dL_law_920 ?_
  refine lv_aload_n hx hb dL_law_921 rfl (lv_at hl 3 rfl) ?_
  refine lv_iload_n hx hb dL_law_922 rfl (lv_at hl 0 rfl) ?_
  refine lv_iconst (v := 2) hx hb dL_law_923 (by decide) ?_
  refine lv_iadd hx hb dL_law_924 ?_
  refine va_sld hx hb hXs hbl hbA hw.2.2 (sc_in hi hL (k := 2) (by decide)) dL_law_925 ?_
  refine x_VI (wr := u) (rest := [.int r]) [.int (xs (Int32.ofNat (6 * i) + 1).toNatClampNeg), .int (xs (Int32.ofNat (6 * i) + 2).toNatClampNeg)] hX cx hw hl.1 M9 (lw_V q1570 q1571 q1572 q94 q1573) hd_X9_byTurns ⟨by show _ ≤ 8192; omega, by show _ ≤ 104096; omega⟩ (rm_recv9 hK hw.1 hR) rfl rfl (Nat.le_of_ble_eq_true rfl) dL_law_926 (List.range wm.length) (List.range' wm.length u.length) (rg_nd0 _) (rg_pre wm u) (rg_map wm u _ rfl) (rg_nd _ _) (rg_dis _ _) ⟨by show _ ≤ 603072; omega, by show _ ≤ 7262314; omega⟩ (fun r9 u9 H locs hp hw => ?_)
  subst hp
  refine lv_icmp_eq (tgt := 1288) hx hb dL_law_929 (by decide) (fun c9 => ?_) (fun c9 => ?_)
  · exact kk u wm2 H locs _ _ hR2 (by omega) (by omega) hw
  · exact absurd rfl c9
theorem lw_c_who (lc : LC l p s m args meth c D d A cs w0 b L xs nm) (hi : 6 * i + 6 ≤ L) (hR : RM d sa ha ta ad w0 ws wm) (hc : cells ≤ 590000) (hsl : slots ≤ 7100000) (hw : Wd D A s (ws ++ wm) H locs) (hl : lv_has ls 4 [(3, .int (Int32.ofNat (6 * i))), (2, .ref (ad 0)), (1, .ref (sa 0)), (0, .ref b)]) (kk : ∀ (ws2 wm2 : va_W) (H1 : Heap) (locs1 : List Loc) (c1 s1 : Nat), RM d sa ha ta ad w0 ws2 wm2 → c1 ≤ cells + 8000 → s1 ≤ slots + 100000 → Wd D A s (ws2 ++ wm2) H1 locs1 → W p l e room_1 s m args below meth c H1 locs1 c1 s1 Q (F0 m 1288 ls [])) : W p l e room_1 s m args below meth c H locs cells slots Q (F0 m 934 ls []) := by
  obtain ⟨hfl, hs, he, h14, cx, hXs, hbl, hbA, hL⟩ := lc
  have cx' := cx
  obtain ⟨hx, hb, hr, hlk, hml, hown, hts, hK, hA, hXX, hnm⟩ := cx'
  have hX := XE.ok (D := D) (cs := cs) (wi := w0)
  obtain ⟨ans, wm2, rm0, rm9, b0, b9, M0, M9⟩ := L_who (l := l) (D := D) (cs := cs) hR (xs (Int32.ofNat (6 * i) + 1).toNatClampNeg) (xs (Int32.ofNat (6 * i) + 2).toNatClampNeg) (xs (Int32.ofNat (6 * i) + 3).toNatClampNeg) (xs (Int32.ofNat (6 * i) + 4).toNatClampNeg) (xs (Int32.ofNat (6 * i) + 5).toNatClampNeg)
  obtain ⟨r1, r2, r3, r4⟩ := rb_spec b0
  obtain ⟨q1, q2, q3, q4⟩ := rb_spec b9
  refine lv_aload_n hx hb dL_law_934 rfl (lv_at hl 2 rfl) ?_
  refine lv_aload_n hx hb dL_law_935 rfl (lv_at hl 3 rfl) ?_
  refine lv_iload_n hx hb dL_law_936 rfl (lv_at hl 0 rfl) ?_
  refine lv_iconst (v := 1) hx hb dL_law_937 (by decide) ?_
  refine lv_iadd hx hb dL_law_938 ?_
  refine va_sld hx hb hXs hbl hbA hw.2.2 (sc_in hi hL (k := 1) (by decide)) dL_law_939 ?_
  refine lv_aload_n hx hb dL_law_940 rfl (lv_at hl 3 rfl) ?_
  refine lv_iload_n hx hb dL_law_941 rfl (lv_at hl 0 rfl) ?_
  refine lv_iconst (v := 2) hx hb dL_law_942 (by decide) ?_
  refine lv_iadd hx hb dL_law_943 ?_
  refine va_sld hx hb hXs hbl hbA hw.2.2 (sc_in hi hL (k := 2) (by decide)) dL_law_944 ?_
  refine lv_aload_n hx hb dL_law_945 rfl (lv_at hl 3 rfl) ?_
  refine lv_iload_n hx hb dL_law_946 rfl (lv_at hl 0 rfl) ?_
  refine lv_iconst (v := 3) hx hb dL_law_947 (by decide) ?_
  refine lv_iadd hx hb dL_law_948 ?_
  refine va_sld hx hb hXs hbl hbA hw.2.2 (sc_in hi hL (k := 3) (by decide)) dL_law_949 ?_
  refine lv_aload_n hx hb dL_law_950 rfl (lv_at hl 3 rfl) ?_
  refine lv_iload_n hx hb dL_law_951 rfl (lv_at hl 0 rfl) ?_
  refine lv_iconst (v := 4) hx hb dL_law_952 (by decide) ?_
  refine lv_iadd hx hb dL_law_953 ?_
  refine va_sld hx hb hXs hbl hbA hw.2.2 (sc_in hi hL (k := 4) (by decide)) dL_law_954 ?_
  refine lv_aload_n hx hb dL_law_955 rfl (lv_at hl 3 rfl) ?_
  refine lv_iload_n hx hb dL_law_956 rfl (lv_at hl 0 rfl) ?_
  refine lv_iconst (v := 5) hx hb dL_law_957 (by decide) ?_
  refine lv_iadd hx hb dL_law_958 ?_
  refine va_sld hx hb hXs hbl hbA hw.2.2 (sc_in hi hL (k := 5) (by decide)) dL_law_959 ?_
  refine x_VIH (wr := wm) (rest := []) [.int (xs (Int32.ofNat (6 * i) + 1).toNatClampNeg), .int (xs (Int32.ofNat (6 * i) + 2).toNatClampNeg), .int (xs (Int32.ofNat (6 * i) + 3).toNatClampNeg), .int (xs (Int32.ofNat (6 * i) + 4).toNatClampNeg), .int (xs (Int32.ofNat (6 * i) + 5).toNatClampNeg)] hX cx hw hl.1 M0 (lw_VW q1032 q1033 q1034 q82 q1035) hd_X0_who ⟨by show _ ≤ 8192; omega, by show _ ≤ 104096; omega⟩ (rm_recv0 hK hw.1 hR) rfl rfl (Nat.le_of_ble_eq_true rfl) dL_law_960 (List.range ws.length) (List.range' ws.length wm.length) (rg_nd0 _) (rg_pre ws wm) (rg_map ws wm _ rfl) (rg_nd _ _) (rg_dis _ _) ⟨by show _ ≤ 603072; omega, by show _ ≤ 7262314; omega⟩ (fun r u H locs hp hw => ?_)
  obtain ⟨rfl, hR2⟩ := hp
  refine lv_aload_n hx hb dL_law_963 rfl (lv_at hl 1 rfl) ?_
  refine lv_aload_n hx hb dL_law_964 rfl (lv_at hl 3 rfl) ?_
  refine lv_iload_n hx hb dL_law_965 rfl (lv_at hl 0 rfl) ?_
  refine lv_iconst (v := 1) hx hb dL_law_966 (by decide) ?_
  refine lv_iadd hx hb dL_law_967 ?_
  refine va_sld hx hb hXs hbl hbA hw.2.2 (sc_in hi hL (k := 1) (by decide)) dL_law_968 ?_
  refine lv_aload_n hx hb dL_law_969 rfl (lv_at hl 3 rfl) ?_
  refine lv_iload_n hx hb dL_law_970 rfl (lv_at hl 0 rfl) ?_
  refine lv_iconst (v := 2) hx hb dL_law_971 (by decide) ?_
  refine lv_iadd hx hb dL_law_972 ?_
  refine va_sld hx hb hXs hbl hbA hw.2.2 (sc_in hi hL (k := 2) (by decide)) dL_law_973 ?_
  refine lv_aload_n hx hb dL_law_974 rfl (lv_at hl 3 rfl) ?_
  refine lv_iload_n hx hb dL_law_975 rfl (lv_at hl 0 rfl) ?_
  refine lv_iconst (v := 3) hx hb dL_law_976 (by decide) ?_
  refine lv_iadd hx hb dL_law_977 ?_
  refine va_sld hx hb hXs hbl hbA hw.2.2 (sc_in hi hL (k := 3) (by decide)) dL_law_978 ?_
  refine lv_aload_n hx hb dL_law_979 rfl (lv_at hl 3 rfl) ?_
  refine lv_iload_n hx hb dL_law_980 rfl (lv_at hl 0 rfl) ?_
  refine lv_iconst (v := 4) hx hb dL_law_981 (by decide) ?_
  refine lv_iadd hx hb dL_law_982 ?_
  refine va_sld hx hb hXs hbl hbA hw.2.2 (sc_in hi hL (k := 4) (by decide)) dL_law_983 ?_
  refine lv_aload_n hx hb dL_law_984 rfl (lv_at hl 3 rfl) ?_
  refine lv_iload_n hx hb dL_law_985 rfl (lv_at hl 0 rfl) ?_
  refine lv_iconst (v := 5) hx hb dL_law_986 (by decide) ?_
  refine lv_iadd hx hb dL_law_987 ?_
  refine va_sld hx hb hXs hbl hbA hw.2.2 (sc_in hi hL (k := 5) (by decide)) dL_law_988 ?_
  refine x_VI (wr := u) (rest := [.int r]) [.int (xs (Int32.ofNat (6 * i) + 1).toNatClampNeg), .int (xs (Int32.ofNat (6 * i) + 2).toNatClampNeg), .int (xs (Int32.ofNat (6 * i) + 3).toNatClampNeg), .int (xs (Int32.ofNat (6 * i) + 4).toNatClampNeg), .int (xs (Int32.ofNat (6 * i) + 5).toNatClampNeg)] hX cx hw hl.1 M9 (lw_V q1579 q1580 q1581 q94 q1582) hd_X9_who ⟨by show _ ≤ 8192; omega, by show _ ≤ 104096; omega⟩ (rm_recv9 hK hw.1 hR) rfl rfl (Nat.le_of_ble_eq_true rfl) dL_law_989 (List.range wm.length) (List.range' wm.length u.length) (rg_nd0 _) (rg_pre wm u) (rg_map wm u _ rfl) (rg_nd _ _) (rg_dis _ _) ⟨by show _ ≤ 603072; omega, by show _ ≤ 7262314; omega⟩ (fun r9 u9 H locs hp hw => ?_)
  subst hp
  refine lv_icmp_eq (tgt := 1288) hx hb dL_law_992 (by decide) (fun c9 => ?_) (fun c9 => ?_)
  · exact kk u wm2 H locs _ _ hR2 (by omega) (by omega) hw
  · exact absurd rfl c9
theorem lw_c_stuck (lc : LC l p s m args meth c D d A cs w0 b L xs nm) (hi : 6 * i + 6 ≤ L) (hR : RM d sa ha ta ad w0 ws wm) (hc : cells ≤ 590000) (hsl : slots ≤ 7100000) (hw : Wd D A s (ws ++ wm) H locs) (hl : lv_has ls 4 [(3, .int (Int32.ofNat (6 * i))), (2, .ref (ad 0)), (1, .ref (sa 0)), (0, .ref b)]) (kk : ∀ (ws2 wm2 : va_W) (H1 : Heap) (locs1 : List Loc) (c1 s1 : Nat), RM d sa ha ta ad w0 ws2 wm2 → c1 ≤ cells + 8000 → s1 ≤ slots + 100000 → Wd D A s (ws2 ++ wm2) H1 locs1 → W p l e room_1 s m args below meth c H1 locs1 c1 s1 Q (F0 m 1288 ls [])) : W p l e room_1 s m args below meth c H locs cells slots Q (F0 m 997 ls []) := by
  obtain ⟨hfl, hs, he, h14, cx, hXs, hbl, hbA, hL⟩ := lc
  have cx' := cx
  obtain ⟨hx, hb, hr, hlk, hml, hown, hts, hK, hA, hXX, hnm⟩ := cx'
  have hX := XE.ok (D := D) (cs := cs) (wi := w0)
  obtain ⟨ans, wm2, rm0, rm9, b0, b9, M0, M9⟩ := L_stuck (l := l) (D := D) (cs := cs) hR (xs (Int32.ofNat (6 * i) + 1).toNatClampNeg) (xs (Int32.ofNat (6 * i) + 2).toNatClampNeg) (xs (Int32.ofNat (6 * i) + 3).toNatClampNeg) (xs (Int32.ofNat (6 * i) + 4).toNatClampNeg)
  obtain ⟨r1, r2, r3, r4⟩ := rb_spec b0
  obtain ⟨q1, q2, q3, q4⟩ := rb_spec b9
  refine lv_aload_n hx hb dL_law_997 rfl (lv_at hl 2 rfl) ?_
  refine lv_aload_n hx hb dL_law_998 rfl (lv_at hl 3 rfl) ?_
  refine lv_iload_n hx hb dL_law_999 rfl (lv_at hl 0 rfl) ?_
  refine lv_iconst (v := 1) hx hb dL_law_1000 (by decide) ?_
  refine lv_iadd hx hb dL_law_1001 ?_
  refine va_sld hx hb hXs hbl hbA hw.2.2 (sc_in hi hL (k := 1) (by decide)) dL_law_1002 ?_
  refine lv_aload_n hx hb dL_law_1003 rfl (lv_at hl 3 rfl) ?_
  refine lv_iload_n hx hb dL_law_1004 rfl (lv_at hl 0 rfl) ?_
  refine lv_iconst (v := 2) hx hb dL_law_1005 (by decide) ?_
  refine lv_iadd hx hb dL_law_1006 ?_
  refine va_sld hx hb hXs hbl hbA hw.2.2 (sc_in hi hL (k := 2) (by decide)) dL_law_1007 ?_
  refine lv_aload_n hx hb dL_law_1008 rfl (lv_at hl 3 rfl) ?_
  refine lv_iload_n hx hb dL_law_1009 rfl (lv_at hl 0 rfl) ?_
  refine lv_iconst (v := 3) hx hb dL_law_1010 (by decide) ?_
  refine lv_iadd hx hb dL_law_1011 ?_
  refine va_sld hx hb hXs hbl hbA hw.2.2 (sc_in hi hL (k := 3) (by decide)) dL_law_1012 ?_
  refine lv_aload_n hx hb dL_law_1013 rfl (lv_at hl 3 rfl) ?_
  refine lv_iload_n hx hb dL_law_1014 rfl (lv_at hl 0 rfl) ?_
  refine lv_iconst (v := 4) hx hb dL_law_1015 (by decide) ?_
  refine lv_iadd hx hb dL_law_1016 ?_
  refine va_sld hx hb hXs hbl hbA hw.2.2 (sc_in hi hL (k := 4) (by decide)) dL_law_1017 ?_
  refine x_VL (wr := wm) (rest := []) [.int (xs (Int32.ofNat (6 * i) + 1).toNatClampNeg), .int (xs (Int32.ofNat (6 * i) + 2).toNatClampNeg), .int (xs (Int32.ofNat (6 * i) + 3).toNatClampNeg), .int (xs (Int32.ofNat (6 * i) + 4).toNatClampNeg)] hX cx hw hl.1 M0 (lw_V q1063 q1064 q1065 q82 q1066) hd_X0_stuck ⟨by show _ ≤ 8192; omega, by show _ ≤ 104096; omega⟩ (rm_recv0 hK hw.1 hR) rfl rfl (Nat.le_of_ble_eq_true rfl) dL_law_1018 (List.range ws.length) (List.range' ws.length wm.length) (rg_nd0 _) (rg_pre ws wm) (rg_map ws wm _ rfl) (rg_nd _ _) (rg_dis _ _) ⟨by show _ ≤ 603072; omega, by show _ ≤ 7262314; omega⟩ (fun r u H locs hp hw => ?_)
  obtain ⟨rfl, hR2⟩ := hp
  refine lv_aload_n hx hb dL_law_1021 rfl (lv_at hl 1 rfl) ?_
  refine lv_aload_n hx hb dL_law_1022 rfl (lv_at hl 3 rfl) ?_
  refine lv_iload_n hx hb dL_law_1023 rfl (lv_at hl 0 rfl) ?_
  refine lv_iconst (v := 1) hx hb dL_law_1024 (by decide) ?_
  refine lv_iadd hx hb dL_law_1025 ?_
  refine va_sld hx hb hXs hbl hbA hw.2.2 (sc_in hi hL (k := 1) (by decide)) dL_law_1026 ?_
  refine lv_aload_n hx hb dL_law_1027 rfl (lv_at hl 3 rfl) ?_
  refine lv_iload_n hx hb dL_law_1028 rfl (lv_at hl 0 rfl) ?_
  refine lv_iconst (v := 2) hx hb dL_law_1029 (by decide) ?_
  refine lv_iadd hx hb dL_law_1030 ?_
  refine va_sld hx hb hXs hbl hbA hw.2.2 (sc_in hi hL (k := 2) (by decide)) dL_law_1031 ?_
  refine lv_aload_n hx hb dL_law_1032 rfl (lv_at hl 3 rfl) ?_
  refine lv_iload_n hx hb dL_law_1033 rfl (lv_at hl 0 rfl) ?_
  refine lv_iconst (v := 3) hx hb dL_law_1034 (by decide) ?_
  refine lv_iadd hx hb dL_law_1035 ?_
  refine va_sld hx hb hXs hbl hbA hw.2.2 (sc_in hi hL (k := 3) (by decide)) dL_law_1036 ?_
  refine lv_aload_n hx hb dL_law_1037 rfl (lv_at hl 3 rfl) ?_
  refine lv_iload_n hx hb dL_law_1038 rfl (lv_at hl 0 rfl) ?_
  refine lv_iconst (v := 4) hx hb dL_law_1039 (by decide) ?_
  refine lv_iadd hx hb dL_law_1040 ?_
  refine va_sld hx hb hXs hbl hbA hw.2.2 (sc_in hi hL (k := 4) (by decide)) dL_law_1041 ?_
  refine x_VL (wr := u) (rest := [.long r]) [.int (xs (Int32.ofNat (6 * i) + 1).toNatClampNeg), .int (xs (Int32.ofNat (6 * i) + 2).toNatClampNeg), .int (xs (Int32.ofNat (6 * i) + 3).toNatClampNeg), .int (xs (Int32.ofNat (6 * i) + 4).toNatClampNeg)] hX cx hw hl.1 M9 (lw_V q1589 q1590 q1591 q94 q1592) hd_X9_stuck ⟨by show _ ≤ 8192; omega, by show _ ≤ 104096; omega⟩ (rm_recv9 hK hw.1 hR) rfl rfl (Nat.le_of_ble_eq_true rfl) dL_law_1042 (List.range wm.length) (List.range' wm.length u.length) (rg_nd0 _) (rg_pre wm u) (rg_map wm u _ rfl) (rg_nd _ _) (rg_dis _ _) ⟨by show _ ≤ 603072; omega, by show _ ≤ 7262314; omega⟩ (fun r9 u9 H locs hp hw => ?_)
  subst hp
  refine W.lcmp hx hb dL_law_1045 ?_
  refine lv_if_eq (tgt := 1288) hx hb dL_law_1046 (by decide) (fun c9 => ?_) (fun c9 => ?_)
  · exact kk u wm2 H locs _ _ hR2 (by omega) (by omega) hw
  · exact absurd (lcmp_same _) c9
theorem lw_c_drawn (lc : LC l p s m args meth c D d A cs w0 b L xs nm) (hi : 6 * i + 6 ≤ L) (hR : RM d sa ha ta ad w0 ws wm) (hc : cells ≤ 590000) (hsl : slots ≤ 7100000) (hw : Wd D A s (ws ++ wm) H locs) (hl : lv_has ls 4 [(3, .int (Int32.ofNat (6 * i))), (2, .ref (ad 0)), (1, .ref (sa 0)), (0, .ref b)]) (kk : ∀ (ws2 wm2 : va_W) (H1 : Heap) (locs1 : List Loc) (c1 s1 : Nat), RM d sa ha ta ad w0 ws2 wm2 → c1 ≤ cells + 8000 → s1 ≤ slots + 100000 → Wd D A s (ws2 ++ wm2) H1 locs1 → W p l e room_1 s m args below meth c H1 locs1 c1 s1 Q (F0 m 1288 ls [])) : W p l e room_1 s m args below meth c H locs cells slots Q (F0 m 1051 ls []) := by
  obtain ⟨hfl, hs, he, h14, cx, hXs, hbl, hbA, hL⟩ := lc
  have cx' := cx
  obtain ⟨hx, hb, hr, hlk, hml, hown, hts, hK, hA, hXX, hnm⟩ := cx'
  have hX := XE.ok (D := D) (cs := cs) (wi := w0)
  obtain ⟨ans, wm2, rm0, rm9, b0, b9, M0, M9⟩ := L_drawn (l := l) (D := D) (cs := cs) hR (xs (Int32.ofNat (6 * i) + 1).toNatClampNeg) (xs (Int32.ofNat (6 * i) + 2).toNatClampNeg) (xs (Int32.ofNat (6 * i) + 3).toNatClampNeg)
  obtain ⟨r1, r2, r3, r4⟩ := rb_spec b0
  obtain ⟨q1, q2, q3, q4⟩ := rb_spec b9
  refine lv_aload_n hx hb dL_law_1051 rfl (lv_at hl 2 rfl) ?_
  refine lv_aload_n hx hb dL_law_1052 rfl (lv_at hl 3 rfl) ?_
  refine lv_iload_n hx hb dL_law_1053 rfl (lv_at hl 0 rfl) ?_
  refine lv_iconst (v := 1) hx hb dL_law_1054 (by decide) ?_
  refine lv_iadd hx hb dL_law_1055 ?_
  refine va_sld hx hb hXs hbl hbA hw.2.2 (sc_in hi hL (k := 1) (by decide)) dL_law_1056 ?_
  refine lv_aload_n hx hb dL_law_1057 rfl (lv_at hl 3 rfl) ?_
  refine lv_iload_n hx hb dL_law_1058 rfl (lv_at hl 0 rfl) ?_
  refine lv_iconst (v := 2) hx hb dL_law_1059 (by decide) ?_
  refine lv_iadd hx hb dL_law_1060 ?_
  refine va_sld hx hb hXs hbl hbA hw.2.2 (sc_in hi hL (k := 2) (by decide)) dL_law_1061 ?_
  refine lv_aload_n hx hb dL_law_1062 rfl (lv_at hl 3 rfl) ?_
  refine lv_iload_n hx hb dL_law_1063 rfl (lv_at hl 0 rfl) ?_
  refine lv_iconst (v := 3) hx hb dL_law_1064 (by decide) ?_
  refine lv_iadd hx hb dL_law_1065 ?_
  refine va_sld hx hb hXs hbl hbA hw.2.2 (sc_in hi hL (k := 3) (by decide)) dL_law_1066 ?_
  refine x_VI (wr := wm) (rest := []) [.int (xs (Int32.ofNat (6 * i) + 1).toNatClampNeg), .int (xs (Int32.ofNat (6 * i) + 2).toNatClampNeg), .int (xs (Int32.ofNat (6 * i) + 3).toNatClampNeg)] hX cx hw hl.1 M0 (lw_V q1077 q1078 q1079 q82 q1080) hd_X0_drawn ⟨by show _ ≤ 8192; omega, by show _ ≤ 104096; omega⟩ (rm_recv0 hK hw.1 hR) rfl rfl (Nat.le_of_ble_eq_true rfl) dL_law_1067 (List.range ws.length) (List.range' ws.length wm.length) (rg_nd0 _) (rg_pre ws wm) (rg_map ws wm _ rfl) (rg_nd _ _) (rg_dis _ _) ⟨by show _ ≤ 603072; omega, by show _ ≤ 7262314; omega⟩ (fun r u H locs hp hw => ?_)
  obtain ⟨rfl, hR2⟩ := hp
  refine lv_aload_n hx hb dL_law_1070 rfl (lv_at hl 1 rfl) ?_
  refine lv_aload_n hx hb dL_law_1071 rfl (lv_at hl 3 rfl) ?_
  refine lv_iload_n hx hb dL_law_1072 rfl (lv_at hl 0 rfl) ?_
  refine lv_iconst (v := 1) hx hb dL_law_1073 (by decide) ?_
  refine lv_iadd hx hb dL_law_1074 ?_
  refine va_sld hx hb hXs hbl hbA hw.2.2 (sc_in hi hL (k := 1) (by decide)) dL_law_1075 ?_
  refine lv_aload_n hx hb dL_law_1076 rfl (lv_at hl 3 rfl) ?_
  refine lv_iload_n hx hb dL_law_1077 rfl (lv_at hl 0 rfl) ?_
  refine lv_iconst (v := 2) hx hb dL_law_1078 (by decide) ?_
  refine lv_iadd hx hb dL_law_1079 ?_
  refine va_sld hx hb hXs hbl hbA hw.2.2 (sc_in hi hL (k := 2) (by decide)) dL_law_1080 ?_
  refine lv_aload_n hx hb dL_law_1081 rfl (lv_at hl 3 rfl) ?_
  refine lv_iload_n hx hb dL_law_1082 rfl (lv_at hl 0 rfl) ?_
  refine lv_iconst (v := 3) hx hb dL_law_1083 (by decide) ?_
  refine lv_iadd hx hb dL_law_1084 ?_
  refine va_sld hx hb hXs hbl hbA hw.2.2 (sc_in hi hL (k := 3) (by decide)) dL_law_1085 ?_
  refine x_VI (wr := u) (rest := [.int r]) [.int (xs (Int32.ofNat (6 * i) + 1).toNatClampNeg), .int (xs (Int32.ofNat (6 * i) + 2).toNatClampNeg), .int (xs (Int32.ofNat (6 * i) + 3).toNatClampNeg)] hX cx hw hl.1 M9 (lw_V q1596 q1597 q1598 q94 q1599) hd_X9_drawn ⟨by show _ ≤ 8192; omega, by show _ ≤ 104096; omega⟩ (rm_recv9 hK hw.1 hR) rfl rfl (Nat.le_of_ble_eq_true rfl) dL_law_1086 (List.range wm.length) (List.range' wm.length u.length) (rg_nd0 _) (rg_pre wm u) (rg_map wm u _ rfl) (rg_nd _ _) (rg_dis _ _) ⟨by show _ ≤ 603072; omega, by show _ ≤ 7262314; omega⟩ (fun r9 u9 H locs hp hw => ?_)
  subst hp
  refine lv_icmp_eq (tgt := 1288) hx hb dL_law_1089 (by decide) (fun c9 => ?_) (fun c9 => ?_)
  · exact kk u wm2 H locs _ _ hR2 (by omega) (by omega) hw
  · exact absurd rfl c9
theorem lw_c_image (lc : LC l p s m args meth c D d A cs w0 b L xs nm) (hi : 6 * i + 6 ≤ L) (hR : RM d sa ha ta ad w0 ws wm) (hc : cells ≤ 590000) (hsl : slots ≤ 7100000) (hw : Wd D A s (ws ++ wm) H locs) (hl : lv_has ls 4 [(3, .int (Int32.ofNat (6 * i))), (2, .ref (ad 0)), (1, .ref (sa 0)), (0, .ref b)]) (kk : ∀ (ws2 wm2 : va_W) (H1 : Heap) (locs1 : List Loc) (c1 s1 : Nat), RM d sa ha ta ad w0 ws2 wm2 → c1 ≤ cells + 8000 → s1 ≤ slots + 100000 → Wd D A s (ws2 ++ wm2) H1 locs1 → W p l e room_1 s m args below meth c H1 locs1 c1 s1 Q (F0 m 1288 ls [])) : W p l e room_1 s m args below meth c H locs cells slots Q (F0 m 1094 ls []) := by
  obtain ⟨hfl, hs, he, h14, cx, hXs, hbl, hbA, hL⟩ := lc
  have cx' := cx
  obtain ⟨hx, hb, hr, hlk, hml, hown, hts, hK, hA, hXX, hnm⟩ := cx'
  have hX := XE.ok (D := D) (cs := cs) (wi := w0)
  obtain ⟨ans, wm2, rm0, rm9, b0, b9, M0, M9⟩ := L_image (l := l) (D := D) (cs := cs) hR (xs (Int32.ofNat (6 * i) + 1).toNatClampNeg)
  obtain ⟨r1, r2, r3, r4⟩ := rb_spec b0
  obtain ⟨q1, q2, q3, q4⟩ := rb_spec b9
  refine lv_aload_n hx hb dL_law_1094 rfl (lv_at hl 2 rfl) ?_
  refine lv_aload_n hx hb dL_law_1095 rfl (lv_at hl 3 rfl) ?_
  refine lv_iload_n hx hb dL_law_1096 rfl (lv_at hl 0 rfl) ?_
  refine lv_iconst (v := 1) hx hb dL_law_1097 (by decide) ?_
  refine lv_iadd hx hb dL_law_1098 ?_
  refine va_sld hx hb hXs hbl hbA hw.2.2 (sc_in hi hL (k := 1) (by decide)) dL_law_1099 ?_
  refine x_VI (wr := wm) (rest := []) [.int (xs (Int32.ofNat (6 * i) + 1).toNatClampNeg)] hX cx hw hl.1 M0 (lw_V q1085 q1086 q1087 q82 q1088) hd_X0_image ⟨by show _ ≤ 8192; omega, by show _ ≤ 104096; omega⟩ (rm_recv0 hK hw.1 hR) rfl rfl (Nat.le_of_ble_eq_true rfl) dL_law_1100 (List.range ws.length) (List.range' ws.length wm.length) (rg_nd0 _) (rg_pre ws wm) (rg_map ws wm _ rfl) (rg_nd _ _) (rg_dis _ _) ⟨by show _ ≤ 603072; omega, by show _ ≤ 7262314; omega⟩ (fun r u H locs hp hw => ?_)
  obtain ⟨rfl, hR2⟩ := hp
  refine lv_aload_n hx hb dL_law_1103 rfl (lv_at hl 1 rfl) ?_
  refine lv_aload_n hx hb dL_law_1104 rfl (lv_at hl 3 rfl) ?_
  refine lv_iload_n hx hb dL_law_1105 rfl (lv_at hl 0 rfl) ?_
  refine lv_iconst (v := 1) hx hb dL_law_1106 (by decide) ?_
  refine lv_iadd hx hb dL_law_1107 ?_
  refine va_sld hx hb hXs hbl hbA hw.2.2 (sc_in hi hL (k := 1) (by decide)) dL_law_1108 ?_
  refine x_VI (wr := u) (rest := [.int r]) [.int (xs (Int32.ofNat (6 * i) + 1).toNatClampNeg)] hX cx hw hl.1 M9 (lw_V q1604 q1605 q1606 q94 q1607) hd_X9_image ⟨by show _ ≤ 8192; omega, by show _ ≤ 104096; omega⟩ (rm_recv9 hK hw.1 hR) rfl rfl (Nat.le_of_ble_eq_true rfl) dL_law_1109 (List.range wm.length) (List.range' wm.length u.length) (rg_nd0 _) (rg_pre wm u) (rg_map wm u _ rfl) (rg_nd _ _) (rg_dis _ _) ⟨by show _ ≤ 603072; omega, by show _ ≤ 7262314; omega⟩ (fun r9 u9 H locs hp hw => ?_)
  subst hp
  refine lv_icmp_eq (tgt := 1288) hx hb dL_law_1112 (by decide) (fun c9 => ?_) (fun c9 => ?_)
  · exact kk u wm2 H locs _ _ hR2 (by omega) (by omega) hw
  · exact absurd rfl c9
theorem lw_c_restore (lc : LC l p s m args meth c D d A cs w0 b L xs nm) (hi : 6 * i + 6 ≤ L) (hR : RM d sa ha ta ad w0 ws wm) (hc : cells ≤ 590000) (hsl : slots ≤ 7100000) (hw : Wd D A s (ws ++ wm) H locs) (hl : lv_has ls 4 [(3, .int (Int32.ofNat (6 * i))), (2, .ref (ad 0)), (1, .ref (sa 0)), (0, .ref b)]) (kk : ∀ (ws2 wm2 : va_W) (H1 : Heap) (locs1 : List Loc) (c1 s1 : Nat), RM d sa ha ta ad w0 ws2 wm2 → c1 ≤ cells + 8000 → s1 ≤ slots + 100000 → Wd D A s (ws2 ++ wm2) H1 locs1 → W p l e room_1 s m args below meth c H1 locs1 c1 s1 Q (F0 m 1288 ls [])) : W p l e room_1 s m args below meth c H locs cells slots Q (F0 m 1117 ls []) := by
  obtain ⟨hfl, hs, he, h14, cx, hXs, hbl, hbA, hL⟩ := lc
  have cx' := cx
  obtain ⟨hx, hb, hr, hlk, hml, hown, hts, hK, hA, hXX, hnm⟩ := cx'
  have hX := XE.ok (D := D) (cs := cs) (wi := w0)
  obtain ⟨ans, wm2, rm0, rm9, b0, b9, M0, M9⟩ := L_restore (l := l) (D := D) (cs := cs) hR (xs (Int32.ofNat (6 * i) + 1).toNatClampNeg)
  obtain ⟨r1, r2, r3, r4⟩ := rb_spec b0
  obtain ⟨q1, q2, q3, q4⟩ := rb_spec b9
  refine lv_aload_n hx hb dL_law_1117 rfl (lv_at hl 2 rfl) ?_
  refine lv_aload_n hx hb dL_law_1118 rfl (lv_at hl 3 rfl) ?_
  refine lv_iload_n hx hb dL_law_1119 rfl (lv_at hl 0 rfl) ?_
  refine lv_iconst (v := 1) hx hb dL_law_1120 (by decide) ?_
  refine lv_iadd hx hb dL_law_1121 ?_
  refine va_sld hx hb hXs hbl hbA hw.2.2 (sc_in hi hL (k := 1) (by decide)) dL_law_1122 ?_
  refine x_VI (wr := wm) (rest := []) [.int (xs (Int32.ofNat (6 * i) + 1).toNatClampNeg)] hX cx hw hl.1 M0 (lw_V q1089 q1090 q1091 q82 q1092) hd_X0_restore ⟨by show _ ≤ 8192; omega, by show _ ≤ 104096; omega⟩ (rm_recv0 hK hw.1 hR) rfl rfl (Nat.le_of_ble_eq_true rfl) dL_law_1123 (List.range ws.length) (List.range' ws.length wm.length) (rg_nd0 _) (rg_pre ws wm) (rg_map ws wm _ rfl) (rg_nd _ _) (rg_dis _ _) ⟨by show _ ≤ 603072; omega, by show _ ≤ 7262314; omega⟩ (fun r u H locs hp hw => ?_)
  obtain ⟨rfl, hR2⟩ := hp
  refine lv_aload_n hx hb dL_law_1126 rfl (lv_at hl 1 rfl) ?_
  refine lv_aload_n hx hb dL_law_1127 rfl (lv_at hl 3 rfl) ?_
  refine lv_iload_n hx hb dL_law_1128 rfl (lv_at hl 0 rfl) ?_
  refine lv_iconst (v := 1) hx hb dL_law_1129 (by decide) ?_
  refine lv_iadd hx hb dL_law_1130 ?_
  refine va_sld hx hb hXs hbl hbA hw.2.2 (sc_in hi hL (k := 1) (by decide)) dL_law_1131 ?_
  refine x_VI (wr := u) (rest := [.int r]) [.int (xs (Int32.ofNat (6 * i) + 1).toNatClampNeg)] hX cx hw hl.1 M9 (lw_V q1608 q1609 q1610 q94 q1611) hd_X9_restore ⟨by show _ ≤ 8192; omega, by show _ ≤ 104096; omega⟩ (rm_recv9 hK hw.1 hR) rfl rfl (Nat.le_of_ble_eq_true rfl) dL_law_1132 (List.range wm.length) (List.range' wm.length u.length) (rg_nd0 _) (rg_pre wm u) (rg_map wm u _ rfl) (rg_nd _ _) (rg_dis _ _) ⟨by show _ ≤ 603072; omega, by show _ ≤ 7262314; omega⟩ (fun r9 u9 H locs hp hw => ?_)
  subst hp
  refine lv_icmp_eq (tgt := 1288) hx hb dL_law_1135 (by decide) (fun c9 => ?_) (fun c9 => ?_)
  · exact kk u wm2 H locs _ _ hR2 (by omega) (by omega) hw
  · exact absurd rfl c9
theorem lw_c_kind (lc : LC l p s m args meth c D d A cs w0 b L xs nm) (hi : 6 * i + 6 ≤ L) (hR : RM d sa ha ta ad w0 ws wm) (hc : cells ≤ 590000) (hsl : slots ≤ 7100000) (hw : Wd D A s (ws ++ wm) H locs) (hl : lv_has ls 4 [(3, .int (Int32.ofNat (6 * i))), (2, .ref (ad 0)), (1, .ref (sa 0)), (0, .ref b)]) (kk : ∀ (ws2 wm2 : va_W) (H1 : Heap) (locs1 : List Loc) (c1 s1 : Nat), RM d sa ha ta ad w0 ws2 wm2 → c1 ≤ cells + 8000 → s1 ≤ slots + 100000 → Wd D A s (ws2 ++ wm2) H1 locs1 → W p l e room_1 s m args below meth c H1 locs1 c1 s1 Q (F0 m 1288 ls [])) : W p l e room_1 s m args below meth c H locs cells slots Q (F0 m 1140 ls []) := by
  obtain ⟨hfl, hs, he, h14, cx, hXs, hbl, hbA, hL⟩ := lc
  have cx' := cx
  obtain ⟨hx, hb, hr, hlk, hml, hown, hts, hK, hA, hXX, hnm⟩ := cx'
  have hX := XE.ok (D := D) (cs := cs) (wi := w0)
  obtain ⟨ans, wm2, rm0, rm9, b0, b9, M0, M9⟩ := L_kind (l := l) (D := D) (cs := cs) hR (xs (Int32.ofNat (6 * i) + 1).toNatClampNeg)
  obtain ⟨r1, r2, r3, r4⟩ := rb_spec b0
  obtain ⟨q1, q2, q3, q4⟩ := rb_spec b9
  refine lv_aload_n hx hb dL_law_1140 rfl (lv_at hl 2 rfl) ?_
  refine lv_aload_n hx hb dL_law_1141 rfl (lv_at hl 3 rfl) ?_
  refine lv_iload_n hx hb dL_law_1142 rfl (lv_at hl 0 rfl) ?_
  refine lv_iconst (v := 1) hx hb dL_law_1143 (by decide) ?_
  refine lv_iadd hx hb dL_law_1144 ?_
  refine va_sld hx hb hXs hbl hbA hw.2.2 (sc_in hi hL (k := 1) (by decide)) dL_law_1145 ?_
  refine x_VI (wr := wm) (rest := []) [.int (xs (Int32.ofNat (6 * i) + 1).toNatClampNeg)] hX cx hw hl.1 M0 (lw_V q1093 q1094 q1095 q82 q1096) hd_X0_kind ⟨by show _ ≤ 8192; omega, by show _ ≤ 104096; omega⟩ (rm_recv0 hK hw.1 hR) rfl rfl (Nat.le_of_ble_eq_true rfl) dL_law_1146 (List.range ws.length) (List.range' ws.length wm.length) (rg_nd0 _) (rg_pre ws wm) (rg_map ws wm _ rfl) (rg_nd _ _) (rg_dis _ _) ⟨by show _ ≤ 603072; omega, by show _ ≤ 7262314; omega⟩ (fun r u H locs hp hw => ?_)
  obtain ⟨rfl, hR2⟩ := hp
  refine lv_aload_n hx hb dL_law_1149 rfl (lv_at hl 1 rfl) ?_
  refine lv_aload_n hx hb dL_law_1150 rfl (lv_at hl 3 rfl) ?_
  refine lv_iload_n hx hb dL_law_1151 rfl (lv_at hl 0 rfl) ?_
  refine lv_iconst (v := 1) hx hb dL_law_1152 (by decide) ?_
  refine lv_iadd hx hb dL_law_1153 ?_
  refine va_sld hx hb hXs hbl hbA hw.2.2 (sc_in hi hL (k := 1) (by decide)) dL_law_1154 ?_
  refine x_VI (wr := u) (rest := [.int r]) [.int (xs (Int32.ofNat (6 * i) + 1).toNatClampNeg)] hX cx hw hl.1 M9 (lw_V q1612 q1613 q1614 q94 q1615) hd_X9_kind ⟨by show _ ≤ 8192; omega, by show _ ≤ 104096; omega⟩ (rm_recv9 hK hw.1 hR) rfl rfl (Nat.le_of_ble_eq_true rfl) dL_law_1155 (List.range wm.length) (List.range' wm.length u.length) (rg_nd0 _) (rg_pre wm u) (rg_map wm u _ rfl) (rg_nd _ _) (rg_dis _ _) ⟨by show _ ≤ 603072; omega, by show _ ≤ 7262314; omega⟩ (fun r9 u9 H locs hp hw => ?_)
  subst hp
  refine lv_icmp_eq (tgt := 1288) hx hb dL_law_1158 (by decide) (fun c9 => ?_) (fun c9 => ?_)
  · exact kk u wm2 H locs _ _ hR2 (by omega) (by omega) hw
  · exact absurd rfl c9
theorem lw_c_as (lc : LC l p s m args meth c D d A cs w0 b L xs nm) (hi : 6 * i + 6 ≤ L) (hR : RM d sa ha ta ad w0 ws wm) (hc : cells ≤ 590000) (hsl : slots ≤ 7100000) (hw : Wd D A s (ws ++ wm) H locs) (hl : lv_has ls 4 [(3, .int (Int32.ofNat (6 * i))), (2, .ref (ad 0)), (1, .ref (sa 0)), (0, .ref b)]) (kk : ∀ (ws2 wm2 : va_W) (H1 : Heap) (locs1 : List Loc) (c1 s1 : Nat), RM d sa ha ta ad w0 ws2 wm2 → c1 ≤ cells + 8000 → s1 ≤ slots + 100000 → Wd D A s (ws2 ++ wm2) H1 locs1 → W p l e room_1 s m args below meth c H1 locs1 c1 s1 Q (F0 m 1288 ls [])) : W p l e room_1 s m args below meth c H locs cells slots Q (F0 m 1163 ls []) := by
  obtain ⟨hfl, hs, he, h14, cx, hXs, hbl, hbA, hL⟩ := lc
  have cx' := cx
  obtain ⟨hx, hb, hr, hlk, hml, hown, hts, hK, hA, hXX, hnm⟩ := cx'
  have hX := XE.ok (D := D) (cs := cs) (wi := w0)
  obtain ⟨ans, wm2, rm0, rm9, b0, b9, M0, M9⟩ := L_as (l := l) (D := D) (cs := cs) hfl hR (xs (Int32.ofNat (6 * i) + 1).toNatClampNeg) (xs (Int32.ofNat (6 * i) + 2).toNatClampNeg)
  obtain ⟨r1, r2, r3, r4⟩ := rb_spec b0
  obtain ⟨q1, q2, q3, q4⟩ := rb_spec b9
  refine lv_aload_n hx hb dL_law_1163 rfl (lv_at hl 2 rfl) ?_
  refine lv_aload_n hx hb dL_law_1164 rfl (lv_at hl 3 rfl) ?_
  refine lv_iload_n hx hb dL_law_1165 rfl (lv_at hl 0 rfl) ?_
  refine lv_iconst (v := 1) hx hb dL_law_1166 (by decide) ?_
  refine lv_iadd hx hb dL_law_1167 ?_
  refine va_sld hx hb hXs hbl hbA hw.2.2 (sc_in hi hL (k := 1) (by decide)) dL_law_1168 ?_
  refine lv_aload_n hx hb dL_law_1169 rfl (lv_at hl 3 rfl) ?_
  refine lv_iload_n hx hb dL_law_1170 rfl (lv_at hl 0 rfl) ?_
  refine lv_iconst (v := 2) hx hb dL_law_1171 (by decide) ?_
  refine lv_iadd hx hb dL_law_1172 ?_
  refine va_sld hx hb hXs hbl hbA hw.2.2 (sc_in hi hL (k := 2) (by decide)) dL_law_1173 ?_
  refine x_VIH (wr := wm) (rest := []) [.int (xs (Int32.ofNat (6 * i) + 1).toNatClampNeg), .int (xs (Int32.ofNat (6 * i) + 2).toNatClampNeg)] hX cx hw hl.1 M0 (lw_VW q1117 q1118 q1119 q82 q1120) hd_X0_as ⟨by show _ ≤ 8192; omega, by show _ ≤ 104096; omega⟩ (rm_recv0 hK hw.1 hR) rfl rfl (Nat.le_of_ble_eq_true rfl) dL_law_1174 (List.range ws.length) (List.range' ws.length wm.length) (rg_nd0 _) (rg_pre ws wm) (rg_map ws wm _ rfl) (rg_nd _ _) (rg_dis _ _) ⟨by show _ ≤ 603072; omega, by show _ ≤ 7262314; omega⟩ (fun r u H locs hp hw => ?_)
  obtain ⟨rfl, hR2⟩ := hp
  refine lv_aload_n hx hb dL_law_1177 rfl (lv_at hl 1 rfl) ?_
  refine lv_aload_n hx hb dL_law_1178 rfl (lv_at hl 3 rfl) ?_
  refine lv_iload_n hx hb dL_law_1179 rfl (lv_at hl 0 rfl) ?_
  refine lv_iconst (v := 1) hx hb dL_law_1180 (by decide) ?_
  refine lv_iadd hx hb dL_law_1181 ?_
  refine va_sld hx hb hXs hbl hbA hw.2.2 (sc_in hi hL (k := 1) (by decide)) dL_law_1182 ?_
  refine lv_aload_n hx hb dL_law_1183 rfl (lv_at hl 3 rfl) ?_
  refine lv_iload_n hx hb dL_law_1184 rfl (lv_at hl 0 rfl) ?_
  refine lv_iconst (v := 2) hx hb dL_law_1185 (by decide) ?_
  refine lv_iadd hx hb dL_law_1186 ?_
  refine va_sld hx hb hXs hbl hbA hw.2.2 (sc_in hi hL (k := 2) (by decide)) dL_law_1187 ?_
  refine x_VI (wr := u) (rest := [.int r]) [.int (xs (Int32.ofNat (6 * i) + 1).toNatClampNeg), .int (xs (Int32.ofNat (6 * i) + 2).toNatClampNeg)] hX cx hw hl.1 M9 (lw_V q1616 q1617 q1618 q94 q1619) hd_X9_as ⟨by show _ ≤ 8192; omega, by show _ ≤ 104096; omega⟩ (rm_recv9 hK hw.1 hR) rfl rfl (Nat.le_of_ble_eq_true rfl) dL_law_1188 (List.range wm.length) (List.range' wm.length u.length) (rg_nd0 _) (rg_pre wm u) (rg_map wm u _ rfl) (rg_nd _ _) (rg_dis _ _) ⟨by show _ ≤ 603072; omega, by show _ ≤ 7262314; omega⟩ (fun r9 u9 H locs hp hw => ?_)
  subst hp
  refine lv_icmp_eq (tgt := 1288) hx hb dL_law_1191 (by decide) (fun c9 => ?_) (fun c9 => ?_)
  · exact kk u wm2 H locs _ _ hR2 (by omega) (by omega) hw
  · exact absurd rfl c9
theorem lw_c_ask (lc : LC l p s m args meth c D d A cs w0 b L xs nm) (hi : 6 * i + 6 ≤ L) (hR : RM d sa ha ta ad w0 ws wm) (hc : cells ≤ 590000) (hsl : slots ≤ 7100000) (hw : Wd D A s (ws ++ wm) H locs) (hl : lv_has ls 4 [(3, .int (Int32.ofNat (6 * i))), (2, .ref (ad 0)), (1, .ref (sa 0)), (0, .ref b)]) (kk : ∀ (ws2 wm2 : va_W) (H1 : Heap) (locs1 : List Loc) (c1 s1 : Nat), RM d sa ha ta ad w0 ws2 wm2 → c1 ≤ cells + 8000 → s1 ≤ slots + 100000 → Wd D A s (ws2 ++ wm2) H1 locs1 → W p l e room_1 s m args below meth c H1 locs1 c1 s1 Q (F0 m 1288 ls [])) : W p l e room_1 s m args below meth c H locs cells slots Q (F0 m 1196 ls []) := by
  obtain ⟨hfl, hs, he, h14, cx, hXs, hbl, hbA, hL⟩ := lc
  have cx' := cx
  obtain ⟨hx, hb, hr, hlk, hml, hown, hts, hK, hA, hXX, hnm⟩ := cx'
  have hX := XE.ok (D := D) (cs := cs) (wi := w0)
  obtain ⟨ans, wm2, rm0, rm9, b0, b9, M0, M9⟩ := L_ask (l := l) (D := D) (cs := cs) hR (xs (Int32.ofNat (6 * i) + 1).toNatClampNeg) (xs (Int32.ofNat (6 * i) + 2).toNatClampNeg)
  obtain ⟨r1, r2, r3, r4⟩ := rb_spec b0
  obtain ⟨q1, q2, q3, q4⟩ := rb_spec b9
  refine lv_aload_n hx hb dL_law_1196 rfl (lv_at hl 2 rfl) ?_
  refine lv_aload_n hx hb dL_law_1197 rfl (lv_at hl 3 rfl) ?_
  refine lv_iload_n hx hb dL_law_1198 rfl (lv_at hl 0 rfl) ?_
  refine lv_iconst (v := 1) hx hb dL_law_1199 (by decide) ?_
  refine lv_iadd hx hb dL_law_1200 ?_
  refine va_sld hx hb hXs hbl hbA hw.2.2 (sc_in hi hL (k := 1) (by decide)) dL_law_1201 ?_
  refine lv_aload_n hx hb dL_law_1202 rfl (lv_at hl 3 rfl) ?_
  refine lv_iload_n hx hb dL_law_1203 rfl (lv_at hl 0 rfl) ?_
  refine lv_iconst (v := 2) hx hb dL_law_1204 (by decide) ?_
  refine lv_iadd hx hb dL_law_1205 ?_
  refine va_sld hx hb hXs hbl hbA hw.2.2 (sc_in hi hL (k := 2) (by decide)) dL_law_1206 ?_
  refine x_VI (wr := wm) (rest := []) [.int (xs (Int32.ofNat (6 * i) + 1).toNatClampNeg), .int (xs (Int32.ofNat (6 * i) + 2).toNatClampNeg)] hX cx hw hl.1 M0 (lw_V q1144 q1145 q1146 q82 q1147) hd_X0_ask ⟨by show _ ≤ 8192; omega, by show _ ≤ 104096; omega⟩ (rm_recv0 hK hw.1 hR) rfl rfl (Nat.le_of_ble_eq_true rfl) dL_law_1207 (List.range ws.length) (List.range' ws.length wm.length) (rg_nd0 _) (rg_pre ws wm) (rg_map ws wm _ rfl) (rg_nd _ _) (rg_dis _ _) ⟨by show _ ≤ 603072; omega, by show _ ≤ 7262314; omega⟩ (fun r u H locs hp hw => ?_)
  obtain ⟨rfl, hR2⟩ := hp
  refine lv_aload_n hx hb dL_law_1210 rfl (lv_at hl 1 rfl) ?_
  refine lv_aload_n hx hb dL_law_1211 rfl (lv_at hl 3 rfl) ?_
  refine lv_iload_n hx hb dL_law_1212 rfl (lv_at hl 0 rfl) ?_
  refine lv_iconst (v := 1) hx hb dL_law_1213 (by decide) ?_
  refine lv_iadd hx hb dL_law_1214 ?_
  refine va_sld hx hb hXs hbl hbA hw.2.2 (sc_in hi hL (k := 1) (by decide)) dL_law_1215 ?_
  refine lv_aload_n hx hb dL_law_1216 rfl (lv_at hl 3 rfl) ?_
  refine lv_iload_n hx hb dL_law_1217 rfl (lv_at hl 0 rfl) ?_
  refine lv_iconst (v := 2) hx hb dL_law_1218 (by decide) ?_
  refine lv_iadd hx hb dL_law_1219 ?_
  refine va_sld hx hb hXs hbl hbA hw.2.2 (sc_in hi hL (k := 2) (by decide)) dL_law_1220 ?_
  refine x_VI (wr := u) (rest := [.int r]) [.int (xs (Int32.ofNat (6 * i) + 1).toNatClampNeg), .int (xs (Int32.ofNat (6 * i) + 2).toNatClampNeg)] hX cx hw hl.1 M9 (lw_V q1623 q1624 q1625 q94 q1626) hd_X9_ask ⟨by show _ ≤ 8192; omega, by show _ ≤ 104096; omega⟩ (rm_recv9 hK hw.1 hR) rfl rfl (Nat.le_of_ble_eq_true rfl) dL_law_1221 (List.range wm.length) (List.range' wm.length u.length) (rg_nd0 _) (rg_pre wm u) (rg_map wm u _ rfl) (rg_nd _ _) (rg_dis _ _) ⟨by show _ ≤ 603072; omega, by show _ ≤ 7262314; omega⟩ (fun r9 u9 H locs hp hw => ?_)
  subst hp
  refine lv_icmp_eq (tgt := 1288) hx hb dL_law_1224 (by decide) (fun c9 => ?_) (fun c9 => ?_)
  · exact kk u wm2 H locs _ _ hR2 (by omega) (by omega) hw
  · exact absurd rfl c9
theorem lw_c_trace (lc : LC l p s m args meth c D d A cs w0 b L xs nm) (hi : 6 * i + 6 ≤ L) (hR : RM d sa ha ta ad w0 ws wm) (hc : cells ≤ 590000) (hsl : slots ≤ 7100000) (hw : Wd D A s (ws ++ wm) H locs) (hl : lv_has ls 4 [(3, .int (Int32.ofNat (6 * i))), (2, .ref (ad 0)), (1, .ref (sa 0)), (0, .ref b)]) (kk : ∀ (ws2 wm2 : va_W) (H1 : Heap) (locs1 : List Loc) (c1 s1 : Nat), RM d sa ha ta ad w0 ws2 wm2 → c1 ≤ cells + 8000 → s1 ≤ slots + 100000 → Wd D A s (ws2 ++ wm2) H1 locs1 → W p l e room_1 s m args below meth c H1 locs1 c1 s1 Q (F0 m 1288 ls [])) : W p l e room_1 s m args below meth c H locs cells slots Q (F0 m 1229 ls []) := by
  obtain ⟨hfl, hs, he, h14, cx, hXs, hbl, hbA, hL⟩ := lc
  have cx' := cx
  obtain ⟨hx, hb, hr, hlk, hml, hown, hts, hK, hA, hXX, hnm⟩ := cx'
  have hX := XE.ok (D := D) (cs := cs) (wi := w0)
  obtain ⟨ans, wm2, rm0, rm9, b0, b9, M0, M9⟩ := L_trace (l := l) (D := D) (cs := cs) hR (xs (Int32.ofNat (6 * i) + 1).toNatClampNeg)
  obtain ⟨r1, r2, r3, r4⟩ := rb_spec b0
  obtain ⟨q1, q2, q3, q4⟩ := rb_spec b9
  refine lv_aload_n hx hb dL_law_1229 rfl (lv_at hl 2 rfl) ?_
  refine lv_aload_n hx hb dL_law_1230 rfl (lv_at hl 3 rfl) ?_
  refine lv_iload_n hx hb dL_law_1231 rfl (lv_at hl 0 rfl) ?_
  refine lv_iconst (v := 1) hx hb dL_law_1232 (by decide) ?_
  refine lv_iadd hx hb dL_law_1233 ?_
  refine va_sld hx hb hXs hbl hbA hw.2.2 (sc_in hi hL (k := 1) (by decide)) dL_law_1234 ?_
  refine x_VI (wr := wm) (rest := []) [.int (xs (Int32.ofNat (6 * i) + 1).toNatClampNeg)] hX cx hw hl.1 M0 (lw_V q1230 q1231 q1232 q82 q1233) hd_X0_trace ⟨by show _ ≤ 8192; omega, by show _ ≤ 104096; omega⟩ (rm_recv0 hK hw.1 hR) rfl rfl (Nat.le_of_ble_eq_true rfl) dL_law_1235 (List.range ws.length) (List.range' ws.length wm.length) (rg_nd0 _) (rg_pre ws wm) (rg_map ws wm _ rfl) (rg_nd _ _) (rg_dis _ _) ⟨by show _ ≤ 603072; omega, by show _ ≤ 7262314; omega⟩ (fun r u H locs hp hw => ?_)
  obtain ⟨rfl, hR2⟩ := hp
  refine lv_aload_n hx hb dL_law_1238 rfl (lv_at hl 1 rfl) ?_
  refine lv_aload_n hx hb dL_law_1239 rfl (lv_at hl 3 rfl) ?_
  refine lv_iload_n hx hb dL_law_1240 rfl (lv_at hl 0 rfl) ?_
  refine lv_iconst (v := 1) hx hb dL_law_1241 (by decide) ?_
  refine lv_iadd hx hb dL_law_1242 ?_
  refine va_sld hx hb hXs hbl hbA hw.2.2 (sc_in hi hL (k := 1) (by decide)) dL_law_1243 ?_
  refine x_VI (wr := u) (rest := [.int r]) [.int (xs (Int32.ofNat (6 * i) + 1).toNatClampNeg)] hX cx hw hl.1 M9 (lw_V q1663 q1664 q1665 q94 q1666) hd_X9_trace ⟨by show _ ≤ 8192; omega, by show _ ≤ 104096; omega⟩ (rm_recv9 hK hw.1 hR) rfl rfl (Nat.le_of_ble_eq_true rfl) dL_law_1244 (List.range wm.length) (List.range' wm.length u.length) (rg_nd0 _) (rg_pre wm u) (rg_map wm u _ rfl) (rg_nd _ _) (rg_dis _ _) ⟨by show _ ≤ 603072; omega, by show _ ≤ 7262314; omega⟩ (fun r9 u9 H locs hp hw => ?_)
  subst hp
  refine lv_icmp_eq (tgt := 1288) hx hb dL_law_1247 (by decide) (fun c9 => ?_) (fun c9 => ?_)
  · exact kk u wm2 H locs _ _ hR2 (by omega) (by omega) hw
  · exact absurd rfl c9
theorem lw_c_count (lc : LC l p s m args meth c D d A cs w0 b L xs nm) (hi : 6 * i + 6 ≤ L) (hR : RM d sa ha ta ad w0 ws wm) (hc : cells ≤ 590000) (hsl : slots ≤ 7100000) (hw : Wd D A s (ws ++ wm) H locs) (hl : lv_has ls 4 [(3, .int (Int32.ofNat (6 * i))), (2, .ref (ad 0)), (1, .ref (sa 0)), (0, .ref b)]) (kk : ∀ (ws2 wm2 : va_W) (H1 : Heap) (locs1 : List Loc) (c1 s1 : Nat), RM d sa ha ta ad w0 ws2 wm2 → c1 ≤ cells + 8000 → s1 ≤ slots + 100000 → Wd D A s (ws2 ++ wm2) H1 locs1 → W p l e room_1 s m args below meth c H1 locs1 c1 s1 Q (F0 m 1288 ls [])) : W p l e room_1 s m args below meth c H locs cells slots Q (F0 m 1252 ls []) := by
  obtain ⟨hfl, hs, he, h14, cx, hXs, hbl, hbA, hL⟩ := lc
  have cx' := cx
  obtain ⟨hx, hb, hr, hlk, hml, hown, hts, hK, hA, hXX, hnm⟩ := cx'
  have hX := XE.ok (D := D) (cs := cs) (wi := w0)
  obtain ⟨ans, wm2, rm0, rm9, b0, b9, M0, M9⟩ := L_count (l := l) (D := D) (cs := cs) hR (xs (Int32.ofNat (6 * i) + 1).toNatClampNeg)
  obtain ⟨r1, r2, r3, r4⟩ := rb_spec b0
  obtain ⟨q1, q2, q3, q4⟩ := rb_spec b9
  refine lv_aload_n hx hb dL_law_1252 rfl (lv_at hl 2 rfl) ?_
  refine lv_aload_n hx hb dL_law_1253 rfl (lv_at hl 3 rfl) ?_
  refine lv_iload_n hx hb dL_law_1254 rfl (lv_at hl 0 rfl) ?_
  refine lv_iconst (v := 1) hx hb dL_law_1255 (by decide) ?_
  refine lv_iadd hx hb dL_law_1256 ?_
  refine va_sld hx hb hXs hbl hbA hw.2.2 (sc_in hi hL (k := 1) (by decide)) dL_law_1257 ?_
  refine x_VI (wr := wm) (rest := []) [.int (xs (Int32.ofNat (6 * i) + 1).toNatClampNeg)] hX cx hw hl.1 M0 (lw_V q1234 q1235 q1236 q82 q1237) hd_X0_count ⟨by show _ ≤ 8192; omega, by show _ ≤ 104096; omega⟩ (rm_recv0 hK hw.1 hR) rfl rfl (Nat.le_of_ble_eq_true rfl) dL_law_1258 (List.range ws.length) (List.range' ws.length wm.length) (rg_nd0 _) (rg_pre ws wm) (rg_map ws wm _ rfl) (rg_nd _ _) (rg_dis _ _) ⟨by show _ ≤ 603072; omega, by show _ ≤ 7262314; omega⟩ (fun r u H locs hp hw => ?_)
  obtain ⟨rfl, hR2⟩ := hp
  refine lv_aload_n hx hb dL_law_1261 rfl (lv_at hl 1 rfl) ?_
  refine lv_aload_n hx hb dL_law_1262 rfl (lv_at hl 3 rfl) ?_
  refine lv_iload_n hx hb dL_law_1263 rfl (lv_at hl 0 rfl) ?_
  refine lv_iconst (v := 1) hx hb dL_law_1264 (by decide) ?_
  refine lv_iadd hx hb dL_law_1265 ?_
  refine va_sld hx hb hXs hbl hbA hw.2.2 (sc_in hi hL (k := 1) (by decide)) dL_law_1266 ?_
  refine x_VI (wr := u) (rest := [.int r]) [.int (xs (Int32.ofNat (6 * i) + 1).toNatClampNeg)] hX cx hw hl.1 M9 (lw_V q1667 q1668 q1669 q94 q1670) hd_X9_count ⟨by show _ ≤ 8192; omega, by show _ ≤ 104096; omega⟩ (rm_recv9 hK hw.1 hR) rfl rfl (Nat.le_of_ble_eq_true rfl) dL_law_1267 (List.range wm.length) (List.range' wm.length u.length) (rg_nd0 _) (rg_pre wm u) (rg_map wm u _ rfl) (rg_nd _ _) (rg_dis _ _) ⟨by show _ ≤ 603072; omega, by show _ ≤ 7262314; omega⟩ (fun r9 u9 H locs hp hw => ?_)
  subst hp
  refine lv_icmp_eq (tgt := 1288) hx hb dL_law_1270 (by decide) (fun c9 => ?_) (fun c9 => ?_)
  · exact kk u wm2 H locs _ _ hR2 (by omega) (by omega) hw
  · exact absurd rfl c9
theorem lw_c_status (lc : LC l p s m args meth c D d A cs w0 b L xs nm) (hi : 6 * i + 6 ≤ L) (hR : RM d sa ha ta ad w0 ws wm) (hc : cells ≤ 590000) (hsl : slots ≤ 7100000) (hw : Wd D A s (ws ++ wm) H locs) (hl : lv_has ls 4 [(3, .int (Int32.ofNat (6 * i))), (2, .ref (ad 0)), (1, .ref (sa 0)), (0, .ref b)]) (kk : ∀ (ws2 wm2 : va_W) (H1 : Heap) (locs1 : List Loc) (c1 s1 : Nat), RM d sa ha ta ad w0 ws2 wm2 → c1 ≤ cells + 8000 → s1 ≤ slots + 100000 → Wd D A s (ws2 ++ wm2) H1 locs1 → W p l e room_1 s m args below meth c H1 locs1 c1 s1 Q (F0 m 1288 ls [])) : W p l e room_1 s m args below meth c H locs cells slots Q (F0 m 1275 ls []) := by
  obtain ⟨hfl, hs, he, h14, cx, hXs, hbl, hbA, hL⟩ := lc
  have cx' := cx
  obtain ⟨hx, hb, hr, hlk, hml, hown, hts, hK, hA, hXX, hnm⟩ := cx'
  have hX := XE.ok (D := D) (cs := cs) (wi := w0)
  obtain ⟨ans, wm2, rm0, rm9, b0, b9, M0, M9⟩ := L_status (l := l) (D := D) (cs := cs) hR
  obtain ⟨r1, r2, r3, r4⟩ := rb_spec b0
  obtain ⟨q1, q2, q3, q4⟩ := rb_spec b9
  refine lv_aload_n hx hb dL_law_1275 rfl (lv_at hl 2 rfl) ?_
  refine x_VI (wr := wm) (rest := []) [] hX cx hw hl.1 M0 (lw_V q1238 q1239 q1240 q82 q1241) hd_X0_status ⟨by show _ ≤ 8192; omega, by show _ ≤ 104096; omega⟩ (rm_recv0 hK hw.1 hR) rfl rfl (Nat.le_of_ble_eq_true rfl) dL_law_1276 (List.range ws.length) (List.range' ws.length wm.length) (rg_nd0 _) (rg_pre ws wm) (rg_map ws wm _ rfl) (rg_nd _ _) (rg_dis _ _) ⟨by show _ ≤ 603072; omega, by show _ ≤ 7262314; omega⟩ (fun r u H locs hp hw => ?_)
  obtain ⟨rfl, hR2⟩ := hp
  refine lv_aload_n hx hb dL_law_1279 rfl (lv_at hl 1 rfl) ?_
  refine x_VI (wr := u) (rest := [.int r]) [] hX cx hw hl.1 M9 (lw_V q1679 q1680 q1681 q94 q1682) hd_X9_status ⟨by show _ ≤ 8192; omega, by show _ ≤ 104096; omega⟩ (rm_recv9 hK hw.1 hR) rfl rfl (Nat.le_of_ble_eq_true rfl) dL_law_1280 (List.range wm.length) (List.range' wm.length u.length) (rg_nd0 _) (rg_pre wm u) (rg_map wm u _ rfl) (rg_nd _ _) (rg_dis _ _) ⟨by show _ ≤ 603072; omega, by show _ ≤ 7262314; omega⟩ (fun r9 u9 H locs hp hw => ?_)
  subst hp
  refine lv_icmp_eq (tgt := 1288) hx hb dL_law_1283 (by decide) (fun c9 => ?_) (fun c9 => ?_)
  · exact kk u wm2 H locs _ _ hR2 (by omega) (by omega) hw
  · exact absurd rfl c9
end LWC
