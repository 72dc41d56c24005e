/-! THE LAW LEVEL 2: the walk of minutes -/
set_option maxRecDepth 100000
theorem hd_X0_minutes : yX0_minutes.cls = "DishLift" ∧ yX0_minutes.cls ≠ "java/lang/invoke/MethodHandle" ∧ yX0_minutes.cls ≠ "java/lang/invoke/VarHandle" ∧ (parseMethodDescriptor yX0_minutes.desc).map (fun d => d.parameters.length) = some 1 := by decide +kernel
/-- what minutes leaves -/
abbrev MS : Type := HV × Nat × (Nat → Option Nat) × (Nat → Nat → Nat) × (Nat → HV)
def MP (ln : Nat → Option Int32) (lf : Nat → Nat → Option Nat) (dk : Nat → Option Nat) (g' : Nat) (w w' : Nat → Int32) (u : MS) : Prop :=
  TV ln lf dk u.1 w' ∧ PVs ln lf dk u.2.2.2.2 w' u.2.1 ∧ (∀ j a, j < 24 → u.2.2.1 j = some a → a = u.2.2.2.1 j 0) ∧ (∀ j, j < u.2.1 → ∃ a, u.2.2.1 j = some a) ∧ Int32.ofNat g' = Int32.ofNat u.2.1 ∧ ∀ i, 43 ≤ i → i < 215 → w' i = w i
section MW
variable {p : Program} {l : Launch} {e : Env} {s : State} {m : MethodId} {args : Array Value} {below : List Frame} {meth : Method} {c : Code} {D : va_G} {d : Nat → ClassId} {A : Nat → Prop} {cs : Nat → Nat} {wi : va_W} {ln : Nat → Option Int32} {lf : Nat → Nat → Option Nat} {dk : Nat → Option Nat} {dn : Nat → Int32} {sa ha ta : Nat → Nat} {gt gf : Int32} {tra : Nat} {gs : Int32}
set_option maxHeartbeats 4000000 in
theorem min_loop (him : ImF d wi ln lf dk dn) (cx : Cx p s m args meth c (XI D cs wi) D d A "DishLift" cX0_minutes 3 (some .int) "minutes") {n g' : Nat} (hn : n ≤ 24) {w0 w' : Nat → Int32} {ans : Int32} (hans : fX9_servedOf w' (Int32.ofNat 0) = some ans) :
    ∀ (j k : Nat) (hv : HV) (w : Nat → Int32) (B : AH) (g : Nat) (PA : Nat → Option Nat) (qa : Nat → Nat → Nat) (PH : Nat → HV) (f : Nat) (H : Heap) (locs : List Loc) (ls : Array Slot) (cells slots : Nat), k + j = n → cells + 8 * j ≤ 200 → slots + 54 * j ≤ 1400 → LV ln lf dk hv w B → zM B + j ≤ 999 → PVs ln lf dk PH w g → (∀ j a, j < 24 → PA j = some a → a = qa j 0) → (∀ j, j < g → ∃ a, PA j = some a) → (∀ i, 43 ≤ i → i < 215 → w i = w0 i) →
    lp (fX9_minutes_b45 (Int32.ofNat n)) f (Int32.ofNat k, Int32.ofNat g, w) = some (Int32.ofNat g', w') → Wd D A s (mW d sa ha ta gt gf tra gs hv g PA qa PH) H locs → lv_has ls 3 [(2, .int (Int32.ofNat k)), (0, .ref (sa 0)), (1, .int (Int32.ofNat n))] →
    W p l e { frames := 8, cells := 200, slots := 1400, locals := 260 } s m args below meth c H locs cells slots (MQ below (va_Qi (fun r (u : MS) => r = ans ∧ MP ln lf dk g' w0 w' u) (fun u t => posW D (mW d sa ha ta gt gf tra gs u.1 u.2.1 u.2.2.1 u.2.2.2.1 u.2.2.2.2) A t) A) args s 200 1400 A) (F0 m 45 ls []) := by
  have cx' := cx
  obtain ⟨hx, hb, hr, hlk, hml, hown, hts, hK, hA, hXs, hnm⟩ := cx'
  have hX := XI.ok (D := D) (cs := cs) (wi := wi)
  intro j
  induction j with
  | zero =>
    intro k hv w B g PA qa PH f H locs ls cells slots hk hc hs hL hM hP hPA hPA2 hw0 hlp hw hl
    have e : k = n := by omega
    subst e
    obtain ⟨f, rfl⟩ : ∃ f', f = f' + 1 := by
      cases f with
      | zero => cases hlp
      | succ f => exact ⟨f, rfl⟩
    rw [lp_inr (min_end hn)] at hlp
    have hlp := Option.some.inj hlp
    have e1 : Int32.ofNat g = Int32.ofNat g' := congrArg Prod.fst hlp
    have e2 : w = w' := congrArg Prod.snd hlp
    subst e2
    refine lv_iload_n hx hb dX0_minutes_45 rfl (lv_at hl 0 rfl) ?_
    refine lv_iload_n hx hb dX0_minutes_46 rfl (lv_at hl 2 rfl) ?_
    refine lv_icmp_ge (tgt := 68) hx hb dX0_minutes_47 (by decide) (fun c47 => ?_) (fun c47 => ?_)
    · refine lv_aload_n hx hb dX0_minutes_68 rfl (lv_at hl 1 rfl) ?_
      refine va_get (ci := 1) (C := RX0) (T := TX0) (N := 14) hx hb hts in_X0 hown hK hw.1 7 rfl rfl 4 (by decide) (hts _ q298) (fun _ h9 => h9) rfl dX0_minutes_69 ?_
      refine lv_iconst (v := 2) hx hb dX0_minutes_72 (by decide) ?_
      have e3 : fX9_servedOf w (Int32.ofNat 0) = some (svb B) := servedOf_v (r := 0) (by omega) hL.2.2.1 hL.2.1
      have e4 : ans = svb B := Option.some.inj (hans.symm.trans e3)
      have e5 : gX1_areSo ln hv 2 = some (svb B) := areSo_v hL.2.2.1 hL.1 (c := 2) (by omega)
      refine x_VI (wr := (oS sa ha ta gt gf (Int32.ofNat g) tra gs :: (((sa 3), .inl (d 4, 24, .inr (.inr (.inr (.inr PA))))) :: pool (pC d PA qa PH) 24))) (rest := []) [.int 2] hX cx hw hl.1 (vX1_areSo l D d cs wi ln lf dk dn him ha hv 2 _ e5) (lw_V q867 q788 q789 q83 q790) hd_X1_areSo ⟨(Nat.le_of_ble_eq_true rfl), (Nat.le_of_ble_eq_true rfl)⟩ (va_recv hK hw.1 (ci := 2) (q0 := 0) rfl rfl) rfl rfl (Nat.le_of_ble_eq_true rfl) dX0_minutes_73 (List.range 7) (List.range' 7 (oS sa ha ta gt gf (Int32.ofNat g) tra gs :: (((sa 3), .inl (d 4, 24, .inr (.inr (.inr (.inr PA))))) :: pool (pC d PA qa PH) 24)).length) (by decide) rfl (rg_map [oV ha hv, aV d ha 1 (HHO hv), aV d ha 2 (HAT hv), aV d ha 3 (HTO hv), aV d ha 4 (HWE hv), aV d ha 5 (HHE hv), aV d ha 6 (HRA hv)] (oS sa ha ta gt gf (Int32.ofNat g) tra gs :: (((sa 3), .inl (d 4, 24, .inr (.inr (.inr (.inr PA))))) :: pool (pC d PA qa PH) 24)) 7 rfl) (rg_nd _ _) (rg_dis 7 _) ⟨by dsimp only; omega, by dsimp only; omega⟩ (fun r u H locs hp hw => ?_)
      have hw : Wd D A s (mW d sa ha ta gt gf tra gs hv g PA qa PH) H locs := hw.perm List.perm_append_comm
      subst hp
      refine x_retI (w1 := fun (u : MS) => mW d sa ha ta gt gf tra gs u.1 u.2.1 u.2.2.1 u.2.2.2.1 u.2.2.2.2) cx hw rfl (hv, g, PA, qa, PH) ⟨e4.symm, Or.inr ⟨B, hL⟩, hP, hPA, hPA2, e1.symm, hw0⟩ (List.range (mW d sa ha ta gt gf tra gs hv g PA qa PH).length) (rg_nd0 _) (rg_all _) (by dsimp only; omega) (by dsimp only; omega) dX0_minutes_76
    · exact absurd (yle (a := k) (b := k) (by omega) (by omega) (Nat.le_refl _)) c47
  | succ j ih =>
    intro k hv w B g PA qa PH f H locs ls cells slots hk hc hs hL hM hP hPA hPA2 hw0 hlp hw hl
    obtain ⟨f, rfl⟩ : ∃ f', f = f' + 1 := by
      cases f with
      | zero => cases hlp
      | succ f => exact ⟨f, rfl⟩
    refine lv_iload_n hx hb dX0_minutes_45 rfl (lv_at hl 0 rfl) ?_
    refine lv_iload_n hx hb dX0_minutes_46 rfl (lv_at hl 2 rfl) ?_
    refine lv_icmp_ge (tgt := 68) hx hb dX0_minutes_47 (by decide) (fun c47 => ?_) (fun c47 => ?_)
    · exact absurd c47 (nle (a := n) (b := k) (by omega) (by omega) (by omega))
    · refine lv_aload_n hx hb dX0_minutes_50 rfl (lv_at hl 1 rfl) ?_
      obtain ⟨rm, r1, r2, r3, r4, hkw⟩ := keep_w l D d cs wi ln lf dk dn him sa ha ta gt gf tra gs hv g PA qa PH hL.2.2.1 hL.1 hL.2.2.2.2.2 hP.1 hPA hPA2
      refine x_VV (wr := []) (rest := []) [] hX cx hw hl.1 hkw (lw_V q774 q776 qs18 q82 q777) hd_X0_keep ⟨by dsimp only; omega, by dsimp only; omega⟩ (va_recv hK hw.1 (ci := 1) (q0 := 7) rfl rfl) rfl rfl (Nat.le_of_ble_eq_true rfl) dX0_minutes_51 (List.range (mW d sa ha ta gt gf tra gs hv g PA qa PH).length) [] (rg_nd0 _) (rg_all _) rfl rfl (fun i hi => nomatch hi) ⟨by dsimp only; omega, by dsimp only; omega⟩ (fun u H locs hp hw => ?_)
      obtain ⟨PA', qa', q⟩ := u
      obtain ⟨s1, s2, s3, s4⟩ := hp
      dsimp only at s1 s2 s3 s4
      have hw : Wd D A s (mW d sa ha ta gt gf tra gs hv (gk g) PA' qa' (pk PH g q)) H locs := hw
      obtain ⟨w2, v', m1, m2, m3, m4, m5⟩ := min_step hL (by omega) hP s1 s2 (n := n) (k := k) (by omega) hn
      rw [lp_inl m1] at hlp
      refine lv_aload_n hx hb dX0_minutes_54 rfl (lv_at hl 1 rfl) ?_
      refine va_get (ci := 1) (C := RX0) (T := TX0) (N := 14) hx hb hts in_X0 hown hK hw.1 7 rfl rfl 4 (by decide) (hts _ q298) (fun _ h9 => h9) rfl dX0_minutes_55 ?_
      refine x_VA (wr := (oS sa ha ta gt gf (Int32.ofNat (gk g)) tra gs :: (((sa 3), .inl (d 4, 24, .inr (.inr (.inr (.inr PA'))))) :: pool (pC d PA' qa' (pk PH g q)) 24))) (rest := []) [] hX cx hw hl.1 (vX1_pass l D d cs wi ln lf dk dn him ha hv _ m2) (lw_V q778 q779 q780 q83 q781) hd_X1_pass ⟨(Nat.le_of_ble_eq_true rfl), (Nat.le_of_ble_eq_true rfl)⟩ (va_recv hK hw.1 (ci := 2) (q0 := 0) rfl rfl) rfl rfl (Nat.le_of_ble_eq_true rfl) dX0_minutes_58 (List.range 7) (List.range' 7 (oS sa ha ta gt gf (Int32.ofNat (gk g)) tra gs :: (((sa 3), .inl (d 4, 24, .inr (.inr (.inr (.inr PA'))))) :: pool (pC d PA' qa' (pk PH g q)) 24)).length) (by decide) rfl (rg_map [oV ha hv, aV d ha 1 (HHO hv), aV d ha 2 (HAT hv), aV d ha 3 (HTO hv), aV d ha 4 (HWE hv), aV d ha 5 (HHE hv), aV d ha 6 (HRA hv)] (oS sa ha ta gt gf (Int32.ofNat (gk g)) tra gs :: (((sa 3), .inl (d 4, 24, .inr (.inr (.inr (.inr PA'))))) :: pool (pC d PA' qa' (pk PH g q)) 24)) 7 rfl) (rg_nd _ _) (rg_dis 7 _) ⟨by dsimp only; omega, by dsimp only; omega⟩ (fun u H locs hp hw => ?_)
      have hw : Wd D A s (mW d sa ha ta gt gf tra gs v' (gk g) PA' qa' (pk PH g q)) H locs := hw.perm List.perm_append_comm
      refine lv_pop hx hb dX0_minutes_61 rfl ?_
      refine lv_iinc (v := Int32.ofNat (k + 1)) (lv' := [(2, .int (Int32.ofNat (k + 1))), (0, .ref (sa 0)), (1, .int (Int32.ofNat n))]) hx hb dX0_minutes_62 hl (k := 0) rfl (by exact o1 k) (by decide) rfl (fun ls hl => ?_)
      refine lv_goto (tgt := 45) hx hb dX0_minutes_65 (by decide) ?_
      exact ih (k + 1) v' w2 (pa B) (gk g) PA' qa' (pk PH g q) f H locs ls _ _ (by omega) (by dsimp only; omega) (by dsimp only; omega) m3 (by rw [pa_M]; omega) m4 s3 s4 (fun i a1 a2 => (m5 i a1 a2).trans (hw0 i a1 a2)) hlp hw hl
end MW
