set_option maxRecDepth 100000
set_option maxHeartbeats 4000000 in
theorem mX0_minutes (l : Launch) (D : va_G) (d : Nat → ClassId) (cs : Nat → Nat) (wi : va_W) (ln : Nat → Option Int32) (lf : Nat → Nat → Option Nat) (dk : Nat → Option Nat) (dn : Nat → Int32) (him : ImF d wi ln lf dk dn) (sa ha ta : Nat → Nat) (gt gf : Int32) (tra : Nat) (gs : Int32) (hv : HV) (g : Nat) (PA : Nat → Option Nat) (qa : Nat → Nat → Nat) (PH : Nat → HV) (p1 : Int32) {w w' : Nat → Int32} {ans : Int32} {g' : Nat} (hT : TV ln lf dk hv w) (hP : PVs ln lf dk PH w g) (hPA : ∀ j a, j < 24 → PA j = some a → a = qa j 0) (hPA2 : ∀ j, j < g → ∃ a, PA j = some a) (href : fX9_minutes w (Int32.ofNat g) p1 = some (ans, Int32.ofNat g', w')) :
    MetI l yX0_minutes (ws_ yX0_minutes cX0_minutes 3 (some .int)) { frames := 8, cells := 200, slots := 1400, locals := 260 } [.ref (sa 0), .int p1] (XI D cs wi) D d (mW d sa ha ta gt gf tra gs hv g PA qa PH) (fun r (u : MS) => r = ans ∧ MP ln lf dk g' w w' u) (fun u => mW d sa ha ta gt gf tra gs u.1 u.2.1 u.2.2.1 u.2.2.2.1 u.2.2.2.2) := by
  have hX := XI.ok (D := D) (cs := cs) (wi := wi)
  refine MetI.of (by decide +kernel) (Nat.le_of_ble_eq_true rfl) ?_
  intro p e s m below meth c A cx hw ls hl
  have cx : Cx p s m _ meth c (XI D cs wi) D d A "DishLift" cX0_minutes 3 (some .int) "minutes" := cx
  have cx' := cx
  obtain ⟨hx, hb, hr, hlk, hml, hown, hts, hK, hA, hXs, hnm⟩ := cx'
  have hl : lv_has ls 3 [(0, .ref (sa 0)), (1, .int p1)] := hl
  generalize hlo : ([] : List Loc) = locs at hw ⊢
  rcases min_pre hT hP p1 with ⟨hq1, hm⟩ | ⟨hq1, hq2, hm⟩ | ⟨hq1, hq2, hc, hm⟩ | ⟨B, n, g2, w2, ans2, hq1, hq2, hc, rfl, hn, hL, hM, hlp, hsv, hm⟩
  · obtain ⟨ea, eg, ew⟩ : (-1000002) = ans ∧ Int32.ofNat g = Int32.ofNat g' ∧ w = w' := by
      have h9 := Option.some.inj (hm.symm.trans href)
      exact ⟨congrArg Prod.fst h9, congrArg (fun q => q.2.1) h9, congrArg (fun q => q.2.2) h9⟩
    have eg := eg.symm
    subst ew
    subst ea
    refine lv_aload_n hx hb dX0_minutes_0 rfl (lv_at hl 0 rfl) ?_
    refine x_VI (wr := (((sa 3), .inl (d 4, 24, .inr (.inr (.inr (.inr PA))))) :: pool (pC d PA qa PH) 24)) (rest := []) [] hX cx hw hl.1 (mX0_isHouse l D d cs wi ln lf dk dn him ha sa ta hv gt gf (Int32.ofNat g) tra gs 0 hq1) (lw_V q769 q771 qs17 q82 q772) hd_X0_isHouse ⟨(Nat.le_of_ble_eq_true rfl), (Nat.le_of_ble_eq_true rfl)⟩ (va_recv hK hw.1 (ci := 1) (q0 := 7) rfl rfl) rfl rfl (Nat.le_of_ble_eq_true rfl) dX0_minutes_1 (List.range 8) (List.range' 8 (((sa 3), .inl (d 4, 24, .inr (.inr (.inr (.inr PA))))) :: pool (pC d PA qa PH) 24).length) (by decide) rfl (rg_map ([oV ha hv, aV d ha 1 (HHO hv), aV d ha 2 (HAT hv), aV d ha 3 (HTO hv), aV d ha 4 (HWE hv), aV d ha 5 (HHE hv), aV d ha 6 (HRA hv), oS sa ha ta gt gf (Int32.ofNat g) tra gs]) (((sa 3), .inl (d 4, 24, .inr (.inr (.inr (.inr PA))))) :: pool (pC d PA qa PH) 24) 8 rfl) (rg_nd _ _) (rg_dis 8 _) ⟨(Nat.le_of_ble_eq_true rfl), (Nat.le_of_ble_eq_true rfl)⟩ (fun r u H locs hp hw => ?_)
    have hw : Wd D A s (mW d sa ha ta gt gf tra gs hv g PA qa PH) H locs := hw.perm List.perm_append_comm
    subst hp
    refine lv_if_ne (tgt := 10) hx hb dX0_minutes_4 (by decide) (fun c4 => ?_) (fun c4 => ?_)
    · exact absurd rfl c4
    · refine lv_ldc (v := (-1000002)) hx hb hown (hts _ q764) dX0_minutes_7 ?_
      exact x_retI (w1 := fun (u : MS) => mW d sa ha ta gt gf tra gs u.1 u.2.1 u.2.2.1 u.2.2.2.1 u.2.2.2.2) cx hw rfl (hv, g, PA, qa, PH) ⟨rfl, hT, hP, hPA, hPA2, eg, fun _ _ _ => rfl⟩ (List.range (mW d sa ha ta gt gf tra gs hv g PA qa PH).length) (rg_nd0 _) (rg_all _) (Nat.le_of_ble_eq_true rfl) (Nat.le_of_ble_eq_true rfl) dX0_minutes_9
  · obtain ⟨ea, eg, ew⟩ : (-1000001) = ans ∧ Int32.ofNat g = Int32.ofNat g' ∧ w = w' := by
      have h9 := Option.some.inj (hm.symm.trans href)
      exact ⟨congrArg Prod.fst h9, congrArg (fun q => q.2.1) h9, congrArg (fun q => q.2.2) h9⟩
    have eg := eg.symm
    subst ew
    subst ea
    refine lv_aload_n hx hb dX0_minutes_0 rfl (lv_at hl 0 rfl) ?_
    refine x_VI (wr := (((sa 3), .inl (d 4, 24, .inr (.inr (.inr (.inr PA))))) :: pool (pC d PA qa PH) 24)) (rest := []) [] hX cx hw hl.1 (mX0_isHouse l D d cs wi ln lf dk dn him ha sa ta hv gt gf (Int32.ofNat g) tra gs 1 hq1) (lw_V q769 q771 qs17 q82 q772) hd_X0_isHouse ⟨(Nat.le_of_ble_eq_true rfl), (Nat.le_of_ble_eq_true rfl)⟩ (va_recv hK hw.1 (ci := 1) (q0 := 7) rfl rfl) rfl rfl (Nat.le_of_ble_eq_true rfl) dX0_minutes_1 (List.range 8) (List.range' 8 (((sa 3), .inl (d 4, 24, .inr (.inr (.inr (.inr PA))))) :: pool (pC d PA qa PH) 24).length) (by decide) rfl (rg_map ([oV ha hv, aV d ha 1 (HHO hv), aV d ha 2 (HAT hv), aV d ha 3 (HTO hv), aV d ha 4 (HWE hv), aV d ha 5 (HHE hv), aV d ha 6 (HRA hv), oS sa ha ta gt gf (Int32.ofNat g) tra gs]) (((sa 3), .inl (d 4, 24, .inr (.inr (.inr (.inr PA))))) :: pool (pC d PA qa PH) 24) 8 rfl) (rg_nd _ _) (rg_dis 8 _) ⟨(Nat.le_of_ble_eq_true rfl), (Nat.le_of_ble_eq_true rfl)⟩ (fun r u H locs hp hw => ?_)
    have hw : Wd D A s (mW d sa ha ta gt gf tra gs hv g PA qa PH) H locs := hw.perm List.perm_append_comm
    subst hp
    refine lv_if_ne (tgt := 10) hx hb dX0_minutes_4 (by decide) (fun c4 => ?_) (fun c4 => ?_)
    · refine lv_iload_n hx hb dX0_minutes_10 rfl (lv_at hl 1 rfl) ?_
      refine lv_i2l (v := p1.toInt64) hx hb dX0_minutes_11 rfl ?_
      refine lv_lconst (v := 1) hx hb dX0_minutes_12 (by decide) ?_
      refine lv_ldc2 (v := 24) hx hb hown (hts _ q773) dX0_minutes_13 ?_
      refine x_SI (wr := mW d sa ha ta gt gf tra gs hv g PA qa PH) (rest := []) [.long p1.toInt64, .long 1, .long 24] hX cx hw hl.1 (mX0_isIn l (XI D cs wi) hX D d p1.toInt64 1 24 0 hq2) (lw_S q346 q347 q82 q348) hd_X0_isIn ⟨(Nat.le_of_ble_eq_true rfl), (Nat.le_of_ble_eq_true rfl)⟩ rfl rfl (Nat.le_of_ble_eq_true rfl) dX0_minutes_16 [] (List.range (mW d sa ha ta gt gf tra gs hv g PA qa PH).length) rfl rfl (rg_all _) (rg_nd0 _) (fun i _ hi => nomatch hi) ⟨(Nat.le_of_ble_eq_true rfl), (Nat.le_of_ble_eq_true rfl)⟩ (fun r u H locs hp hw => ?_)
      have hw : Wd D A s (mW d sa ha ta gt gf tra gs hv g PA qa PH) H locs := hw.perm (by rw [List.append_nil])
      subst hp
      refine lv_if_ne (tgt := 25) hx hb dX0_minutes_19 (by decide) (fun c19 => ?_) (fun c19 => ?_)
      · exact absurd rfl c19
      · refine lv_ldc (v := (-1000001)) hx hb hown (hts _ q350) dX0_minutes_22 ?_
        exact x_retI (w1 := fun (u : MS) => mW d sa ha ta gt gf tra gs u.1 u.2.1 u.2.2.1 u.2.2.2.1 u.2.2.2.2) cx hw rfl (hv, g, PA, qa, PH) ⟨rfl, hT, hP, hPA, hPA2, eg, fun _ _ _ => rfl⟩ (List.range (mW d sa ha ta gt gf tra gs hv g PA qa PH).length) (rg_nd0 _) (rg_all _) (Nat.le_of_ble_eq_true rfl) (Nat.le_of_ble_eq_true rfl) dX0_minutes_24
    · exact absurd c4 (by decide)
  · obtain ⟨ea, eg, ew⟩ : (-1000003) = ans ∧ Int32.ofNat g = Int32.ofNat g' ∧ w = w' := by
      have h9 := Option.some.inj (hm.symm.trans href)
      exact ⟨congrArg Prod.fst h9, congrArg (fun q => q.2.1) h9, congrArg (fun q => q.2.2) h9⟩
    have eg := eg.symm
    subst ew
    subst ea
    refine lv_aload_n hx hb dX0_minutes_0 rfl (lv_at hl 0 rfl) ?_
    refine x_VI (wr := (((sa 3), .inl (d 4, 24, .inr (.inr (.inr (.inr PA))))) :: pool (pC d PA qa PH) 24)) (rest := []) [] hX cx hw hl.1 (mX0_isHouse l D d cs wi ln lf dk dn him ha sa ta hv gt gf (Int32.ofNat g) tra gs 1 hq1) (lw_V q769 q771 qs17 q82 q772) hd_X0_isHouse ⟨(Nat.le_of_ble_eq_true rfl), (Nat.le_of_ble_eq_true rfl)⟩ (va_recv hK hw.1 (ci := 1) (q0 := 7) rfl rfl) rfl rfl (Nat.le_of_ble_eq_true rfl) dX0_minutes_1 (List.range 8) (List.range' 8 (((sa 3), .inl (d 4, 24, .inr (.inr (.inr (.inr PA))))) :: pool (pC d PA qa PH) 24).length) (by decide) rfl (rg_map ([oV ha hv, aV d ha 1 (HHO hv), aV d ha 2 (HAT hv), aV d ha 3 (HTO hv), aV d ha 4 (HWE hv), aV d ha 5 (HHE hv), aV d ha 6 (HRA hv), oS sa ha ta gt gf (Int32.ofNat g) tra gs]) (((sa 3), .inl (d 4, 24, .inr (.inr (.inr (.inr PA))))) :: pool (pC d PA qa PH) 24) 8 rfl) (rg_nd _ _) (rg_dis 8 _) ⟨(Nat.le_of_ble_eq_true rfl), (Nat.le_of_ble_eq_true rfl)⟩ (fun r u H locs hp hw => ?_)
    have hw : Wd D A s (mW d sa ha ta gt gf tra gs hv g PA qa PH) H locs := hw.perm List.perm_append_comm
    subst hp
    refine lv_if_ne (tgt := 10) hx hb dX0_minutes_4 (by decide) (fun c4 => ?_) (fun c4 => ?_)
    · refine lv_iload_n hx hb dX0_minutes_10 rfl (lv_at hl 1 rfl) ?_
      refine lv_i2l (v := p1.toInt64) hx hb dX0_minutes_11 rfl ?_
      refine lv_lconst (v := 1) hx hb dX0_minutes_12 (by decide) ?_
      refine lv_ldc2 (v := 24) hx hb hown (hts _ q773) dX0_minutes_13 ?_
      refine x_SI (wr := mW d sa ha ta gt gf tra gs hv g PA qa PH) (rest := []) [.long p1.toInt64, .long 1, .long 24] hX cx hw hl.1 (mX0_isIn l (XI D cs wi) hX D d p1.toInt64 1 24 1 hq2) (lw_S q346 q347 q82 q348) hd_X0_isIn ⟨(Nat.le_of_ble_eq_true rfl), (Nat.le_of_ble_eq_true rfl)⟩ rfl rfl (Nat.le_of_ble_eq_true rfl) dX0_minutes_16 [] (List.range (mW d sa ha ta gt gf tra gs hv g PA qa PH).length) rfl rfl (rg_all _) (rg_nd0 _) (fun i _ hi => nomatch hi) ⟨(Nat.le_of_ble_eq_true rfl), (Nat.le_of_ble_eq_true rfl)⟩ (fun r u H locs hp hw => ?_)
      have hw : Wd D A s (mW d sa ha ta gt gf tra gs hv g PA qa PH) H locs := hw.perm (by rw [List.append_nil])
      subst hp
      refine lv_if_ne (tgt := 25) hx hb dX0_minutes_19 (by decide) (fun c19 => ?_) (fun c19 => ?_)
      · refine lv_aload_n hx hb dX0_minutes_25 rfl (lv_at hl 0 rfl) ?_
        refine va_get (ci := 1) (C := RX0) (T := TX0) (N := 14) hx hb hts in_X0 hown hK hw.1 7 rfl rfl 4 (by decide) (hts _ q298) (fun _ h9 => h9) rfl dX0_minutes_26 ?_
        refine va_get (ci := 2) (C := RX1) (T := TX1) (N := 15) hx hb hts in_X1 hown hK hw.1 0 rfl rfl 12 (by decide) (hts _ q194) (fun _ h9 => h9) rfl dX0_minutes_29 ?_
        refine lv_iload_n hx hb dX0_minutes_32 rfl (lv_at hl 1 rfl) ?_
        refine lv_iadd hx hb dX0_minutes_33 ?_
        refine lv_sipush (v := 999) hx hb dX0_minutes_34 (by decide) ?_
        refine lv_icmp_le (tgt := 43) hx hb dX0_minutes_37 (by decide) (fun c37 => ?_) (fun c37 => ?_)
        · exact absurd c37 hc
        · refine lv_ldc (v := (-1000003)) hx hb hown (hts _ q504) dX0_minutes_40 ?_
          exact x_retI (w1 := fun (u : MS) => mW d sa ha ta gt gf tra gs u.1 u.2.1 u.2.2.1 u.2.2.2.1 u.2.2.2.2) cx hw rfl (hv, g, PA, qa, PH) ⟨rfl, hT, hP, hPA, hPA2, eg, fun _ _ _ => rfl⟩ (List.range (mW d sa ha ta gt gf tra gs hv g PA qa PH).length) (rg_nd0 _) (rg_all _) (Nat.le_of_ble_eq_true rfl) (Nat.le_of_ble_eq_true rfl) dX0_minutes_42
      · exact absurd c19 (by decide)
    · exact absurd c4 (by decide)
  · obtain ⟨ea, eg, ew⟩ : ans2 = ans ∧ Int32.ofNat g2 = Int32.ofNat g' ∧ w2 = w' := by
      have h9 := Option.some.inj (hm.symm.trans href)
      exact ⟨congrArg Prod.fst h9, congrArg (fun q => q.2.1) h9, congrArg (fun q => q.2.2) h9⟩
    subst ew
    subst ea
    refine lv_aload_n hx hb dX0_minutes_0 rfl (lv_at hl 0 rfl) ?_
    refine x_VI (wr := (((sa 3), .inl (d 4, 24, .inr (.inr (.inr (.inr PA))))) :: pool (pC d PA qa PH) 24)) (rest := []) [] hX cx hw hl.1 (mX0_isHouse l D d cs wi ln lf dk dn him ha sa ta hv gt gf (Int32.ofNat g) tra gs 1 hq1) (lw_V q769 q771 qs17 q82 q772) hd_X0_isHouse ⟨(Nat.le_of_ble_eq_true rfl), (Nat.le_of_ble_eq_true rfl)⟩ (va_recv hK hw.1 (ci := 1) (q0 := 7) rfl rfl) rfl rfl (Nat.le_of_ble_eq_true rfl) dX0_minutes_1 (List.range 8) (List.range' 8 (((sa 3), .inl (d 4, 24, .inr (.inr (.inr (.inr PA))))) :: pool (pC d PA qa PH) 24).length) (by decide) rfl (rg_map ([oV ha hv, aV d ha 1 (HHO hv), aV d ha 2 (HAT hv), aV d ha 3 (HTO hv), aV d ha 4 (HWE hv), aV d ha 5 (HHE hv), aV d ha 6 (HRA hv), oS sa ha ta gt gf (Int32.ofNat g) tra gs]) (((sa 3), .inl (d 4, 24, .inr (.inr (.inr (.inr PA))))) :: pool (pC d PA qa PH) 24) 8 rfl) (rg_nd _ _) (rg_dis 8 _) ⟨(Nat.le_of_ble_eq_true rfl), (Nat.le_of_ble_eq_true rfl)⟩ (fun r u H locs hp hw => ?_)
    have hw : Wd D A s (mW d sa ha ta gt gf tra gs hv g PA qa PH) H locs := hw.perm List.perm_append_comm
    subst hp
    refine lv_if_ne (tgt := 10) hx hb dX0_minutes_4 (by decide) (fun c4 => ?_) (fun c4 => ?_)
    · refine lv_iload_n hx hb dX0_minutes_10 rfl (lv_at hl 1 rfl) ?_
      refine lv_i2l (v := (Int32.ofNat n).toInt64) hx hb dX0_minutes_11 rfl ?_
      refine lv_lconst (v := 1) hx hb dX0_minutes_12 (by decide) ?_
      refine lv_ldc2 (v := 24) hx hb hown (hts _ q773) dX0_minutes_13 ?_
      refine x_SI (wr := mW d sa ha ta gt gf tra gs hv g PA qa PH) (rest := []) [.long (Int32.ofNat n).toInt64, .long 1, .long 24] hX cx hw hl.1 (mX0_isIn l (XI D cs wi) hX D d (Int32.ofNat n).toInt64 1 24 1 hq2) (lw_S q346 q347 q82 q348) hd_X0_isIn ⟨(Nat.le_of_ble_eq_true rfl), (Nat.le_of_ble_eq_true rfl)⟩ rfl rfl (Nat.le_of_ble_eq_true rfl) dX0_minutes_16 [] (List.range (mW d sa ha ta gt gf tra gs hv g PA qa PH).length) rfl rfl (rg_all _) (rg_nd0 _) (fun i _ hi => nomatch hi) ⟨(Nat.le_of_ble_eq_true rfl), (Nat.le_of_ble_eq_true rfl)⟩ (fun r u H locs hp hw => ?_)
      have hw : Wd D A s (mW d sa ha ta gt gf tra gs hv g PA qa PH) H locs := hw.perm (by rw [List.append_nil])
      subst hp
      refine lv_if_ne (tgt := 25) hx hb dX0_minutes_19 (by decide) (fun c19 => ?_) (fun c19 => ?_)
      · refine lv_aload_n hx hb dX0_minutes_25 rfl (lv_at hl 0 rfl) ?_
        refine va_get (ci := 1) (C := RX0) (T := TX0) (N := 14) hx hb hts in_X0 hown hK hw.1 7 rfl rfl 4 (by decide) (hts _ q298) (fun _ h9 => h9) rfl dX0_minutes_26 ?_
        refine va_get (ci := 2) (C := RX1) (T := TX1) (N := 15) hx hb hts in_X1 hown hK hw.1 0 rfl rfl 12 (by decide) (hts _ q194) (fun _ h9 => h9) rfl dX0_minutes_29 ?_
        refine lv_iload_n hx hb dX0_minutes_32 rfl (lv_at hl 1 rfl) ?_
        refine lv_iadd hx hb dX0_minutes_33 ?_
        refine lv_sipush (v := 999) hx hb dX0_minutes_34 (by decide) ?_
        refine lv_icmp_le (tgt := 43) hx hb dX0_minutes_37 (by decide) (fun c37 => ?_) (fun c37 => ?_)
        · refine lv_iconst (v := 0) hx hb dX0_minutes_43 (by decide) ?_
          refine lv_istore_n (lv' := [(2, .int 0), (0, .ref (sa 0)), (1, .int (Int32.ofNat n))]) hx hb dX0_minutes_44 rfl hl (by decide) rfl (fun ls hl => ?_)
          have hl : lv_has ls 3 [(2, .int (Int32.ofNat 0)), (0, .ref (sa 0)), (1, .int (Int32.ofNat n))] := hl
          rw [eg] at hlp
          exact min_loop him cx hn hsv n 0 hv w B g PA qa PH FU H locs ls _ _ (by omega) (by dsimp only; omega) (by dsimp only; omega) hL hM hP hPA hPA2 (fun _ _ _ => rfl) hlp hw hl
        · exact absurd hc c37
      · exact absurd c19 (by decide)
    · exact absurd c4 (by decide)
theorem min_ans {ln : Nat → Option Int32} {lf : Nat → Nat → Option Nat} {dk : Nat → Option Nat} {hv : HV} {w : Nat → Int32} {PH : Nat → HV} {g : Nat} (hT : TV ln lf dk hv w) (hP : PVs ln lf dk PH w g) (p1 : Int32) : ∃ ans g' w', fX9_minutes w (Int32.ofNat g) p1 = some (ans, Int32.ofNat g', w') := by
  rcases min_pre hT hP p1 with ⟨_, h⟩ | ⟨_, _, h⟩ | ⟨_, _, _, h⟩ | ⟨_, _, _, _, _, _, _, _, _, _, _, _, _, _, h⟩
  · exact ⟨_, _, _, h⟩
  · exact ⟨_, _, _, h⟩
  · exact ⟨_, _, _, h⟩
  · exact ⟨_, _, _, h⟩
theorem L_minutes {l : Launch} {D : va_G} {d : Nat → ClassId} {cs : Nat → Nat} {w0 : va_W} {sa ha ta ad : Nat → Nat} {ws wm : va_W} (h : RM d sa ha ta ad w0 ws wm) (p1 : Int32) : LawI l yX0_minutes (ws_ yX0_minutes cX0_minutes 3 (some .int)) yX9_minutes (ws_ yX9_minutes cX9_minutes 3 (some .int)) [.int p1] D d cs w0 (sa 0) (ad 0) ws wm (RM d sa ha ta ad w0) := by
  obtain ⟨gf, gs, fa, fb, fn, fr, Ww, TM, MA, LA, IT, HE, OR, BO, VV, KP, TR, tra, tba, tm, TB, hv, tv, LI, BE, TA, TK, RW, PA, IA, rs, ria, qa, xa, PH, IH, ln, lf, dk, dn, wi, g, t, rfl, hp, hF⟩ := h
  obtain ⟨hT, hP, hI, hRR, hRW, hTT, hTP, hGE, hTK, hPA, hPA2, hIA, him⟩ := hF
  obtain ⟨ans, g', w', href⟩ := min_ans hT hP p1
  refine law_of (ans := ans) (wi := (w0 ++ wi)) (wr := ([((sa 1), .inl (d 3, 8, .inr (.inr (.inr (.inr RW))))), ((sa 2), .inl (d 1, 110, .inl TA)), ((sa 4), .inl (d 4, 2, .inr (.inr (.inr (.inr IA))))), ((sa 5), .inl (d 0, 6, .inl LI)), ((sa 6), .inl (d 0, 6, .inl BE)), ((sa 7), .inl (d 5, 5, .inr (.inr (.inr (.inr TK))))), oV ta tv, aV d ta 1 (HHO tv), aV d ta 2 (HAT tv), aV d ta 3 (HTO tv), aV d ta 4 (HWE tv), aV d ta 5 (HHE tv), aV d ta 6 (HRA tv), (tra, .inr (4, [.ref tba, .int tm])), (tba, .inl (d 0, 16, .inl TB))] ++ (pool (rC d ria RW rs) 8 ++ (pool (iC d IH xa) 2 ++ wi)) : va_W)) (wr9 := ([((ad 2), .inl (d 0, 110, .inl TM)), ((ad 3), .inl (d 0, 8, .inl MA)), ((ad 4), .inl (d 0, 8, .inl LA)), ((ad 5), .inl (d 0, 320, .inl IT)), ((ad 6), .inl (d 0, 40, .inl HE)), ((ad 7), .inl (d 0, 7, .inl OR)), ((ad 8), .inl (d 0, 6, .inl BO)), ((ad 9), .inl (d 0, 45, .inl VV)), ((ad 10), .inl (d 2, 2, .inl KP)), ((ad 11), .inl (d 0, 16, .inl TR))] : va_W)) (wm' := MW d ad (Int32.ofNat g') (Int32.ofNat t) gf gs fa fb fn fr w' TM MA LA IT HE OR BO VV KP TR) (mX0_minutes l D d cs (w0 ++ wi) ln lf dk dn him sa ha ta (Int32.ofNat t) gf tra gs hv g PA qa PH p1 hT hP hPA hPA2 href) (mX9_minutes l (XE D cs w0) XE.ok D d ad (Int32.ofNat g) (Int32.ofNat t) gf gs fa fb fn fr Ww p1 _ href) rfl rfl ?_ (fun q hq => (List.mem_append.mp hq).elim Or.inl (fun hq => Or.inr (List.mem_append_right _ (List.mem_append_right _ (List.mem_append_right _ hq))))) ?_ ?_ ?_
  · refine hp.trans ?_
    refine pcountP (fun f g h1 h2 h3 h4 => ?_)
    simp only [SYS, MW, oV, mW, h1, h2, h3]
    omega
  · refine pcountP (fun f g h1 h2 h3 h4 => ?_)
    simp only [SYS, MW, oV, h1, h2, h3]
    omega
  · intro r u hu hap
    obtain ⟨hu, f1, f2, f3, f4, f5, f6⟩ := hu
    refine ⟨hu, ?_⟩
    refine ⟨gf, gs, fa, fb, fn, fr, w', TM, MA, LA, IT, HE, OR, BO, VV, KP, TR, tra, tba, tm, TB, u.1, tv, LI, BE, TA, TK, RW, u.2.2.1, IA, rs, ria, u.2.2.2.1, xa, u.2.2.2.2, IH, ln, lf, dk, dn, wi, u.2.1, t, ?_, ?_, ⟨f1, f2, hI.keep (fun j a1 a2 => f6 j (by omega) (by omega)), hRR, hRW, hTT, hTP, hGE, hTK, f3, f4, hIA, him⟩⟩
    · rw [f5]
    · refine pcountP (fun f g h1 h2 h3 h4 => ?_)
      simp only [SYS, MW, oV, mW, h1, h2, h3]
      omega
  · intro r u hu
    refine ⟨hu, ?_⟩
    refine pcountP (fun f g h1 h2 h3 h4 => ?_)
    simp only [SYS, MW, oV, h1, h2, h3]
    omega
