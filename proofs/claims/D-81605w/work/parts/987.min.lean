/-! THE LAW LEVEL 2: minutes -/
set_option maxRecDepth 100000
section MN
variable {ln : Nat → Option Int32} {lf : Nat → Nat → Option Nat} {dk : Nat → Option Nat} {hv q : HV} {w : Nat → Int32} {A : AH} {PH : Nat → HV} {g : Nat} {n : Nat}
theorem lp_inl {S T : Type} {b : S → Option (S ⊕ T)} {f : Nat} {s s' : S} (h : b s = some (.inl s')) : lp b (f + 1) s = lp b f s' := by
  show (b s).bind _ = _
  rw [h]
  rfl
theorem lp_inr {S T : Type} {b : S → Option (S ⊕ T)} {f : Nat} {s : S} {t : T} (h : b s = some (.inr t)) : lp b (f + 1) s = some t := by
  show (b s).bind _ = _
  rw [h]
  rfl
theorem min_ref (hn : n ≤ 24) : ∀ (j k : Nat) (hv : HV) (w : Nat → Int32) (A : AH) (PH : Nat → HV) (g f : Nat), k + j = n → j < f → LV ln lf dk hv w A → zM A + j ≤ 999 → PVs ln lf dk PH w g → ∃ g' w' hv' B, lp (fX9_minutes_b45 (Int32.ofNat n)) f (Int32.ofNat k, Int32.ofNat g, w) = some (Int32.ofNat g', w') ∧ LV ln lf dk hv' w' B := by
  intro j
  induction j with
  | zero =>
    intro k hv w A PH g f hk hf hL _ _
    have e : k = n := by omega
    subst e
    obtain ⟨f, rfl⟩ : ∃ f', f = f' + 1 := ⟨f - 1, by omega⟩
    exact ⟨g, w, hv, A, lp_inr (min_end hn), hL⟩
  | succ j ih =>
    intro k hv w A PH g f hk hf hL hM hP
    obtain ⟨f, rfl⟩ : ∃ f', f = f' + 1 := ⟨f - 1, by omega⟩
    obtain ⟨w2, v', m1, -, m3, m4, -⟩ := min_step hL (by omega) hP hL.1 hL.2.2.2.2.2 (n := n) (k := k) (by omega) hn
    rw [lp_inl m1]
    exact ih (k + 1) v' w2 (pa A) _ (gk g) f (by omega) (by omega) m3 (by rw [pa_M]; omega) m4
theorem hmi_le (ok : zM A ≤ 999) (h : Hmi hv = Int32.ofNat (zM A)) (hn : n ≤ 24) : (Hmi hv + Int32.ofNat n ≤ 999) ↔ zM A + n ≤ 999 := by
  rw [h, oadd, show (999 : Int32) = Int32.ofNat 999 from rfl]
  exact ole (by omega) (by omega)
theorem min_pre (hT : TV ln lf dk hv w) (hP : PVs ln lf dk PH w g) (p1 : Int32) :
    (fX0_isHouse hv = some 0 ∧ fX9_minutes w (Int32.ofNat g) p1 = some (-1000002, Int32.ofNat g, w)) ∨
    (fX0_isHouse hv = some 1 ∧ fX0_isIn p1.toInt64 1 24 = some 0 ∧ fX9_minutes w (Int32.ofNat g) p1 = some (-1000001, Int32.ofNat g, w)) ∨
    (fX0_isHouse hv = some 1 ∧ fX0_isIn p1.toInt64 1 24 = some 1 ∧ ¬ (Hmi hv + p1 ≤ 999) ∧ fX9_minutes w (Int32.ofNat g) p1 = some (-1000003, Int32.ofNat g, w)) ∨
    (∃ A n g' w' ans, fX0_isHouse hv = some 1 ∧ fX0_isIn p1.toInt64 1 24 = some 1 ∧ (Hmi hv + p1 ≤ 999) ∧ p1 = Int32.ofNat n ∧ n ≤ 24 ∧ LV ln lf dk hv w A ∧ zM A + n ≤ 999 ∧ lp (fX9_minutes_b45 (Int32.ofNat n)) FU (Int32.ofNat 0, Int32.ofNat g, w) = some (Int32.ofNat g', w') ∧ fX9_servedOf w' (Int32.ofNat 0) = some ans ∧ fX9_minutes w (Int32.ofNat g) p1 = some (ans, Int32.ofNat g', w')) := by
  rcases hT with hE | ⟨A, hL⟩
  · left
    refine ⟨?_, ?_⟩
    · rw [isHouse_s hE.2.1 (by omega)]; rfl
    · unfold fX9_minutes
      rw [isHouse_m hE.2.2.2.1 (by omega), Option.bind_some]
      rfl
  · right
    obtain ⟨hS, hm, ok, hN1, hM', hn0⟩ := hL
    have hs := isHouse_s hS.2.1 (by have := ok.2.1; omega)
    have hF1 : 1 ≤ zF A := by have := ok.2.2.1; omega
    rw [if_pos hF1] at hs
    have hm0 : fX9_isHouse w = some 1 := by
      rw [isHouse_m (N := zN A) (by simpa using hm.1) (by have := ok.1; omega), if_pos hN1]
    by_cases c : ((1 : Nat) : Int) ≤ p1.toInt ∧ p1.toInt ≤ ((24 : Nat) : Int)
    · right
      have hin : fX0_isIn p1.toInt64 1 24 = some 1 := by
        rw [show fX0_isIn p1.toInt64 1 24 = _ from inl_eq p1 1 24 (by omega) (by omega), if_pos c]
      obtain ⟨n, rfl, n1, n2⟩ := i32_of (p := p1) (by omega)
      have hn : n ≤ 24 := by omega
      have hmm : w 6 = Hmi hv := (show w 6 = Int32.ofNat (zM A) from by simpa using hm.2.2.2.2.2.2.1).trans hS.2.2.2.2.2.2.1.symm
      have hrd : rd w 1247 6 = some (Hmi hv) := by
        rw [show rd w 1247 6 = some (w 6) from rdw (c := 6) (by omega), hmm]
      have hle := hmi_le (hv := hv) (A := A) (n := n) hM' hS.2.2.2.2.2.2.1 hn
      by_cases c2 : zM A + n ≤ 999
      · right
        obtain ⟨g', w', hv', B, e1, e2⟩ := min_ref hn n 0 hv w A PH g FU (by omega) (FUlt (by omega)) ⟨hS, hm, ok, hN1, hM', hn0⟩ c2 hP
        have e3 : fX9_servedOf w' (Int32.ofNat 0) = some (svb B) := servedOf_v (r := 0) (by omega) e2.2.2.1 e2.2.1
        refine ⟨A, n, g', w', svb B, hs, hin, hle.mpr c2, rfl, hn, ⟨hS, hm, ok, hN1, hM', hn0⟩, c2, e1, e3, ?_⟩
        unfold fX9_minutes
        rw [hm0, Option.bind_some, if_neg (show ¬ (1 : Int32) = 0 by decide), in_same, hin, Option.bind_some, if_neg (show ¬ (1 : Int32) = 0 by decide), hrd, Option.bind_some, if_pos (hle.mpr c2)]
        rw [show lp (fX9_minutes_b45 (Int32.ofNat n)) FU (0, Int32.ofNat g, w) = _ from e1, Option.bind_some]
        dsimp only
        rw [show fX9_servedOf w' 0 = _ from e3, Option.bind_some]
      · left
        have c3 : ¬ (Hmi hv + Int32.ofNat n ≤ 999) := fun h => c2 (hle.mp h)
        refine ⟨hs, hin, c3, ?_⟩
        unfold fX9_minutes
        rw [hm0, Option.bind_some, if_neg (show ¬ (1 : Int32) = 0 by decide), in_same, hin, Option.bind_some, if_neg (show ¬ (1 : Int32) = 0 by decide), hrd, Option.bind_some, if_neg c3]
    · left
      have hin : fX0_isIn p1.toInt64 1 24 = some 0 := by
        rw [show fX0_isIn p1.toInt64 1 24 = _ from inl_eq p1 1 24 (by omega) (by omega), if_neg c]
      refine ⟨hs, hin, ?_⟩
      unfold fX9_minutes
      rw [hm0, Option.bind_some, if_neg (show ¬ (1 : Int32) = 0 by decide), in_same, hin, Option.bind_some, if_pos rfl]
end MN
/-- the world of minutes -/
def mW (d : Nat → ClassId) (sa ha ta : Nat → Nat) (gt gf : Int32) (tra : Nat) (gs : Int32) (hv : HV) (g : Nat) (PA : Nat → Option Nat) (qa : Nat → Nat → Nat) (PH : Nat → HV) : va_W :=
  [oV ha hv, aV d ha 1 (HHO hv), aV d ha 2 (HAT hv), aV d ha 3 (HTO hv), aV d ha 4 (HWE hv), aV d ha 5 (HHE hv), aV d ha 6 (HRA hv), oS sa ha ta gt gf (Int32.ofNat g) tra gs, ((sa 3), .inl (d 4, 24, .inr (.inr (.inr (.inr PA)))))] ++ pool (pC d PA qa PH) 24
theorem keep_w (l : Launch) (D : va_G) (d : Nat → ClassId) (cs : Nat → Nat) (wi : va_W) (ln : Nat → Option Int32) (lf : Nat → Nat → Option Nat) (dk : Nat → Option Nat) (dn : Nat → Int32) (him : ImF d wi ln lf dk dn) (sa ha ta : Nat → Nat) (gt gf : Int32) (tra : Nat) (gs : Int32) (hv : HV) (g : Nat) (PA : Nat → Option Nat) (qa : Nat → Nat → Nat) (PH : Nat → HV) {A : AH} (ok : OK A) (hS : SR ln lf dk hv A) (hn : Htf hv = (-1000000)) (hg : g ≤ 24) (hPA : ∀ j a, j < 24 → PA j = some a → a = qa j 0) (hPA2 : ∀ j, j < g → ∃ a, PA j = some a) :
    ∃ rm : Room, rm.frames ≤ 5 ∧ rm.cells ≤ 8 ∧ rm.slots ≤ 54 ∧ rm.locals ≤ 121 ∧ MetV l yX0_keep (ws_ yX0_keep cX0_keep 3 none) rm [.ref (sa 0)] (XI D cs wi) D d (mW d sa ha ta gt gf tra gs hv g PA qa PH)
      (fun (u : (Nat → Option Nat) × (Nat → Nat → Nat) × HV) => SR ln lf dk u.2.2 A ∧ Htf u.2.2 = (-1000000) ∧ (∀ j a, j < 24 → u.1 j = some a → a = u.2.1 j 0) ∧ ∀ j, j < gk g → ∃ a, u.1 j = some a)
      (fun u => mW d sa ha ta gt gf tra gs hv (gk g) u.1 u.2.1 (pk PH g u.2.2)) := by
  rcases keep_case hg hPA hPA2 with ⟨hg', hn0⟩ | ⟨i, hi, q1, q2, hp0, hk⟩
  · obtain ⟨q, h1, h2, h3⟩ := keep0_eq (PA := PA) ok hS hn hg' hn0
    have hcl : (Int32.ofNat g).toNatClampNeg = g := toClamp24 (by omega)
    have hp : (mW d sa ha ta gt gf tra gs hv g PA qa PH).Perm ([oV ha hv, aV d ha 1 (HHO hv), aV d ha 2 (HAT hv), aV d ha 3 (HTO hv), aV d ha 4 (HWE hv), aV d ha 5 (HHE hv), aV d ha 6 (HRA hv), oS sa ha ta gt gf (Int32.ofNat g) tra gs, ((sa 3), .inl (d 4, 24, .inr (.inr (.inr (.inr PA)))))] ++ pool (pC d PA qa PH) 24) := List.Perm.refl _
    refine ⟨_, ?_, ?_, ?_, ?_, MetV.fr (wr := pool (pC d PA qa PH) 24) (mX0_keep_0 l D d cs wi ln lf dk dn him ha sa ta hv gt gf (Int32.ofNat g) tra gs PA _ h1) hp (fun U sz hh => XI.fr (wa := wi) hp (fun q hq => Or.inl hq) U sz hh) (fun u _ => ⟨(va_up PA g (some (u 0)), fun j => if j = g then u else qa j, q), ⟨h2, h3, past_a1 hPA, past_a2 hg' hPA2⟩, [], ?_⟩)⟩
    · exact Nat.le_of_ble_eq_true rfl
    · exact Nat.le_of_ble_eq_true rfl
    · exact Nat.le_of_ble_eq_true rfl
    · exact Nat.le_of_ble_eq_true rfl
    have e2 := past_new (d := d) (qa := qa) (PH := PH) (u := u) (q := q) hg' hn0
    refine pcountP (fun f g h1 h2 h3 h4 => ?_)
    have e2_ := h4 _ _ e2
    simp only [mW, oV, hC, hcl, h1, h2, h3] at e2_ ⊢
    omega
  · obtain ⟨q, PA', h1, h2, h3, hr⟩ := keep1_eq (PH i) ok hS hn hk
    have e1 := past_out (d := d) (qa := qa) (PH := PH) hi hp0
    obtain ⟨qa', e2, f1, f2⟩ := past_in (d := d) (PH := PH) (q := q) hg hi q1 q2 hp0 hr hPA hPA2
    have hp : (mW d sa ha ta gt gf tra gs hv g PA qa PH).Perm (([oV ha hv, aV d ha 1 (HHO hv), aV d ha 2 (HAT hv), aV d ha 3 (HTO hv), aV d ha 4 (HWE hv), aV d ha 5 (HHE hv), aV d ha 6 (HRA hv)] ++ (hC d (qa i) (PH i) ++ [oS sa ha ta gt gf (Int32.ofNat g) tra gs, ((sa 3), .inl (d 4, 24, .inr (.inr (.inr (.inr PA)))))])) ++ pool (wo (pC d PA qa PH) i) 24) := by
      refine pcountP (fun f g h1 h2 h3 h4 => ?_)
      have e1_ := h4 _ _ e1
      simp only [mW, oV, hC, h1, h2, h3] at e1_ ⊢
      omega
    refine ⟨_, ?_, ?_, ?_, ?_, MetV.fr (wr := pool (wo (pC d PA qa PH) i) 24) (mX0_keep_1 l D d cs (wi ++ pool (wo (pC d PA qa PH) i) 24) ln lf dk dn (him.wide (fun q hq => List.mem_append_left _ hq)) ha (qa i) sa ta (pastH PA i) hv (PH i) gt gf (Int32.ofNat g) tra gs PA (pastH_hhs hPA) _ h1) hp (fun U sz hh => XI.fr (wa := wi) hp (fun q hq => List.mem_append.mp hq) U sz hh) (fun u _ => ⟨(PA', qa', q), ⟨h2, h3, f1, f2⟩, [], ?_⟩)⟩
    · exact Nat.le_of_ble_eq_true rfl
    · exact Nat.le_of_ble_eq_true rfl
    · exact Nat.le_of_ble_eq_true rfl
    · exact Nat.le_of_ble_eq_true rfl
    refine pcountP (fun f g h1 h2 h3 h4 => ?_)
    have e2_ := h4 _ _ e2
    simp only [mW, oV, hC, h1, h2, h3] at e2_ ⊢
    omega
