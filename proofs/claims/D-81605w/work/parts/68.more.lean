/-! THE PLAIN LAW 4: what else is asked of a house -/
set_option maxRecDepth 100000
def gd (K g : Nat) : Bool := if K ≤ 2 then decide (20 ≤ g) else decide (g ≤ 10)
theorem f4_good : ∀ g : Fin 61, fX4_isGood (Int32.ofNat g.val) = some (if decide (20 ≤ g.val) then 1 else 0) := by decide +kernel
theorem f7_good : ∀ g : Fin 61, fX7_isGood (Int32.ofNat g.val) = some (if decide (g.val ≤ 10) then 1 else 0) := by decide +kernel
theorem good_eq {dk : Nat → Option Nat} {e K g : Nat} (hk : dk e = some K) (hK : K < 5) (hg : g ≤ 60) : fdish_isGood dk e (Int32.ofNat g) = some (if gd K g then 1 else 0) := by
  have a4 := f4_good ⟨g, by omega⟩
  have a7 := f7_good ⟨g, by omega⟩
  unfold fdish_isGood
  rw [hk, Option.bind_some]
  rcases (show K = 0 ∨ K = 1 ∨ K = 2 ∨ K = 3 ∨ K = 4 by omega) with rfl | rfl | rfl | rfl | rfl
  · exact a4
  · exact a4
  · exact a4
  · exact a7
  · exact a7
theorem mgood_eq : ∀ K : Fin 5, ∀ g : Fin 61, fX9_isGood (Int32.ofNat (K.val + 1)) (Int32.ofNat g.val) = some (if gd K.val g.val then 1 else 0) := by decide +kernel
def fnb (A : AH) : Int32 := bs (zN A) (fun k => zH A k == 2 && gd (zK A k) (zG A k))
def svb (A : AH) : Int32 := bs (zN A) (fun k => zH A k == 2)
def hal (A : AH) : Int32 := sm (zN A) (fun k => Int32.ofNat (zG A k))
def hsv (A : AH) : Int32 := sm (zN A) (fun k => if zH A k = 2 then Int32.ofNat (zG A k) else 0)
section SY
variable {ln : Nat → Option Int32} {lf : Nat → Nat → Option Nat} {dk : Nat → Option Nat} {v : HV} {A : AH}
theorem areSo_v (ok : OK A) (hS : SR ln lf dk v A) {c : Nat} (hc : c ≤ 2) : gX1_areSo ln v (Int32.ofNat c) = some (bs (zN A) (fun k => zH A k == c)) :=
  areSo_eq hS.1 ok.1 (fun k hk => (hS.2.2.2.2.2.2.2 k hk).1) (fun k hk => (ok.2.2.2.2 k hk).2.1) hc
theorem areSo0 (ok : OK A) (hS : SR ln lf dk v A) : gX1_areSo ln v 0 = some (bs (zN A) (fun k => zH A k == 0)) := by
  rw [show (0 : Int32) = Int32.ofNat 0 from rfl]; exact areSo_v ok hS (by omega)
theorem areSo1 (ok : OK A) (hS : SR ln lf dk v A) : gX1_areSo ln v 1 = some (bs (zN A) (fun k => zH A k == 1)) := by
  rw [show (1 : Int32) = Int32.ofNat 1 from rfl]; exact areSo_v ok hS (by omega)
theorem areSo2 (ok : OK A) (hS : SR ln lf dk v A) : gX1_areSo ln v 2 = some (svb A) := by
  rw [show (2 : Int32) = Int32.ofNat 2 from rfl]; exact areSo_v ok hS (by omega)
theorem many_v (hS : SR ln lf dk v A) : gX1_many ln v = some (Int32.ofNat (zN A)) := by
  unfold gX1_many fX1_many
  rw [hS.1]; rfl
theorem fine_eq (ok : OK A) (hS : SR ln lf dk v A) : gX1_fine ln lf dk v = some (fnb A) := by
  obtain ⟨e1, e2, e3, e4, e5, e6, e7, e8⟩ := hS
  obtain ⟨k1, k2, k3, k4, k6⟩ := ok
  have := lp_cnt (b := fX1_fine_b4 ln lf dk (Hla v) (Htf v) (Htk v) (HHO v) (HHE v)) (r := fnb A) (n := zN A) (FUlt (by omega)) (fun k => (bs k (fun k => zH A k == 2 && gd (zK A k) (zG A k)), Int32.ofNat k)) (fun k hk => by
    obtain ⟨b1, b2, b3, b4, b5, b6, b7, b8⟩ := k6 k hk
    obtain ⟨d1, d2, d3, d4, d5, d6, e, he, hke⟩ := e8 k hk
    have he : fX1_dish ln lf dk (Hla v) (Htf v) (Htk v) (Int32.ofNat k) = some e := he
    have k7 : k < 6 := by omega
    have g2 : (Int32.ofNat (zH A k) = 2) = (zH A k = 2) := q_eq (c := 2) (by omega) (by omega)
    have hg := good_eq (g := zG A k) hke b1 b7
    unfold fX1_fine_b4 fX1_many
    dsimp only
    rw [e1, Option.bind_some, Option.bind_some, if_neg (nle (a := zN A) (b := k) (by omega) (by omega) hk), rdn k7 (by omega), d1, Option.bind_some]
    by_cases c : zH A k = 2
    · rw [if_pos (Eq.mpr g2 c), he, Option.bind_some, rdn k7 (by omega), d5, Option.bind_some, hg, Option.bind_some, o1]
      cases hc : gd (zK A k) (zG A k)
      · simp [bs, c, hc]
      · simp [bs, c, hc]
    · rw [if_neg (fun h => c (Eq.mp g2 h)), o1]
      simp [bs, c]) (by
    unfold fX1_fine_b4 fX1_many
    dsimp only
    rw [e1, Option.bind_some, Option.bind_some, if_pos (yle (a := zN A) (b := zN A) (by omega) (by omega) (Nat.le_refl _))]
    rfl)
  exact congrArg (fun z => Option.bind z fun r1 => some r1) this
theorem heats0_eq (ok : OK A) (hS : SR ln lf dk v A) : gX1_heats ln v 0 = some (hal A) := by
  obtain ⟨e1, e2, e3, e4, e5, e6, e7, e8⟩ := hS
  obtain ⟨k1, k2, k3, k4, k6⟩ := ok
  have := lp_cnt (b := fX1_heats_b4 ln (Hla v) (HHO v) (HHE v) 0) (r := hal A) (n := zN A) (FUlt (by omega)) (fun k => (sm k (fun k => Int32.ofNat (zG A k)), Int32.ofNat k)) (fun k hk => by
    have k7 : k < 6 := by omega
    unfold fX1_heats_b4 fX1_many
    dsimp only
    rw [e1, Option.bind_some, Option.bind_some, if_neg (nle (a := zN A) (b := k) (by omega) (by omega) hk), if_pos rfl, rdn k7 (by omega), (e8 k hk).2.2.2.2.1, Option.bind_some, o1]
    rfl) (by
    unfold fX1_heats_b4 fX1_many
    dsimp only
    rw [e1, Option.bind_some, Option.bind_some, if_pos (yle (a := zN A) (b := zN A) (by omega) (by omega) (Nat.le_refl _))]
    rfl)
  exact congrArg (fun z => Option.bind z fun r1 => some r1) this
theorem heats1_eq (ok : OK A) (hS : SR ln lf dk v A) : gX1_heats ln v 1 = some (hsv A) := by
  obtain ⟨e1, e2, e3, e4, e5, e6, e7, e8⟩ := hS
  obtain ⟨k1, k2, k3, k4, k6⟩ := ok
  have := lp_cnt (b := fX1_heats_b4 ln (Hla v) (HHO v) (HHE v) 1) (r := hsv A) (n := zN A) (FUlt (by omega)) (fun k => (sm k (fun k => if zH A k = 2 then Int32.ofNat (zG A k) else 0), Int32.ofNat k)) (fun k hk => by
    have k7 : k < 6 := by omega
    have b2 := (k6 k hk).2.1
    have g2 : (Int32.ofNat (zH A k) = 2) = (zH A k = 2) := q_eq (c := 2) (by omega) (by omega)
    unfold fX1_heats_b4 fX1_many
    dsimp only
    rw [e1, Option.bind_some, Option.bind_some, if_neg (nle (a := zN A) (b := k) (by omega) (by omega) hk), if_neg (show ¬ (1 : Int32) = 0 by decide), rdn k7 (by omega), (e8 k hk).1, Option.bind_some]
    by_cases c : zH A k = 2
    · rw [if_pos (Eq.mpr g2 c), rdn k7 (by omega), (e8 k hk).2.2.2.2.1, Option.bind_some, o1]
      simp [sm, c]
    · rw [if_neg (fun h => c (Eq.mp g2 h)), o1]
      simp [sm, c]) (by
    unfold fX1_heats_b4 fX1_many
    dsimp only
    rw [e1, Option.bind_some, Option.bind_some, if_pos (yle (a := zN A) (b := zN A) (by omega) (by omega) (Nat.le_refl _))]
    rfl)
  exact congrArg (fun z => Option.bind z fun r1 => some r1) this
theorem isDone_eq (ok : OK A) (hS : SR ln lf dk v A) : gX1_isDone ln v = some (if svb A = (((1 : Int32) <<< (Int32.ofNat (zN A) &&& 31)) - 1) then 1 else 0) := by
  have h := areSo2 ok hS
  have hm := many_v hS
  unfold gX1_isDone fX1_isDone
  have h : fX1_areSo ln (Hla v) (HHO v) 2 = some (svb A) := h
  have hm : fX1_many ln (Hla v) = some (Int32.ofNat (zN A)) := hm
  rw [h, Option.bind_some, hm, Option.bind_some]
  split <;> rfl
def sdA (A : AH) (d f g : Nat) : AH := mkH (zN A) (zF A) (zC A) (zY A) (zM A) (zro A) (zrp A) (zK A) (nu (zH A) d 0) (nu (zA A) d (zT A d)) (nu (zT A) d f) (zX A) (nu (zG A) d g) (zQ A)
theorem OK.sd (ok : OK A) {d f g : Nat} (hd : d < zN A) (hf : f < zF A) (hg : g ≤ 60) : OK (sdA A d f g) := by
  obtain ⟨k1, k2, k3, k4, k6⟩ := ok
  refine ⟨k1, k2, k3, k4, fun k hk => ?_⟩
  obtain ⟨b1, b2, b3, b4, b5, b6, b7, b8⟩ := k6 k hk
  have ht := (k6 d hd).2.2.2.1
  refine ⟨b1, ?_, ?_, ?_, b5, b6, ?_, b8⟩
  · show nu (zH A) d 0 k ≤ 2
    unfold nu; split <;> omega
  · show nu (zA A) d (zT A d) k < zF A
    unfold nu; split <;> omega
  · show nu (zT A) d f k < zF A
    unfold nu; split <;> omega
  · show nu (zG A) d g k ≤ 60
    unfold nu; split <;> omega
theorem upn {f : Nat → Int32} {g : Nat → Nat} {N d x : Nat} (h : ∀ k, k < N → f k = Int32.ofNat (g k)) : ∀ k, k < N → upd f d (Int32.ofNat x) k = Int32.ofNat (nu g d x k) := by
  intro k hk
  by_cases e : k = d
  · subst e; rw [upd_same, nu_same]
  · rw [upd_ne e, nu_ne e]; exact h k hk
theorem send_eq (ok : OK A) (hS : SR ln lf dk v A) {d f g : Nat} (hd : d < zN A) : ∃ v', gX1_send v (Int32.ofNat d) (Int32.ofNat f) (Int32.ofNat g) = some v' ∧ SR ln lf dk v' (sdA A d f g) ∧ Hla v' = Hla v ∧ Htf v' = Htf v ∧ Htk v' = Htk v := by
  have hN := ok.1
  obtain ⟨e1, e2, e3, e4, e5, e6, e7, e8⟩ := hS
  have d6 : d < 6 := by omega
  refine ⟨(Hfl v, Hro v, Hrp v, Hca v, Hwy v, Hla v, upd (HHO v) d 0, upd (HAT v) d (HTO v d), upd (HTO v) d (Int32.ofNat f), HWE v, upd (HHE v) d (Int32.ofNat g), HRA v, Hmi v, Htf v, Htk v), ?_, ?_, rfl, rfl, rfl⟩
  · unfold gX1_send fX1_send
    rw [wrn d6 (by omega), Option.bind_some, rdn d6 (by omega), Option.bind_some, wrn d6 (by omega), Option.bind_some, wrn d6 (by omega), Option.bind_some, wrn d6 (by omega), Option.bind_some]
    rfl
  · refine ⟨e1, e2, e3, e4, e5, e6, e7, fun k hk => ?_⟩
    have hk : k < zN A := hk
    obtain ⟨b1, b2, b3, b4, b5, b6, b7⟩ := e8 k hk
    refine ⟨?_, ?_, ?_, b4, ?_, b6, b7⟩
    · exact upn (x := 0) (fun k hk => (e8 k hk).1) k hk
    · show upd (HAT v) d (HTO v d) k = _
      rw [(e8 d hd).2.2.1]
      exact upn (fun k hk => (e8 k hk).2.1) k hk
    · exact upn (fun k hk => (e8 k hk).2.2.1) k hk
    · exact upn (fun k hk => (e8 k hk).2.2.2.2.1) k hk
theorem cpy6 {f g : Nat → Int32} {k : Nat} (hk : k < 6) : va_cpy f g 0 0 6 k = f k := by
  unfold va_cpy
  rw [if_pos (by omega)]
  congr 1
  omega
theorem nNone {k : Nat} (hk : k < 6) : ¬ Int32.ofNat k = (-1000000) := by
  have h : ∀ j : Fin 6, ¬ Int32.ofNat j.val = (-1000000) := by decide +kernel
  exact h ⟨k, hk⟩
theorem become_eq {tv : HV} (ok : OK A) (hS : SR ln lf dk v A) (hn : Htf v = (-1000000)) : ∃ v', gX1_become tv v = some v' ∧ SR ln lf dk v' A ∧ Hla v' = Hla v ∧ Htf v' = (-1000000) := by
  have hN := ok.1
  obtain ⟨e1, e2, e3, e4, e5, e6, e7, e8⟩ := hS
  refine ⟨(Hfl v, Hro v, Hrp v, Hca v, Hwy v, Hla v, va_cpy (HHO v) (HHO tv) 0 0 6, va_cpy (HAT v) (HAT tv) 0 0 6, va_cpy (HTO v) (HTO tv) 0 0 6, va_cpy (HWE v) (HWE tv) 0 0 6, va_cpy (HHE v) (HHE tv) 0 0 6, va_cpy (HRA v) (HRA tv) 0 0 6, Hmi v, (-1000000), Htk tv), rfl, ?_, rfl, rfl⟩
  refine ⟨e1, e2, e3, e4, e5, e6, e7, fun k hk => ?_⟩
  obtain ⟨b1, b2, b3, b4, b5, b6, e, he, hke⟩ := e8 k hk
  have k6 : k < 6 := by omega
  refine ⟨(cpy6 k6).trans b1, (cpy6 k6).trans b2, (cpy6 k6).trans b3, (cpy6 k6).trans b4, (cpy6 k6).trans b5, (cpy6 k6).trans b6, e, ?_, hke⟩
  have he : fX1_dish ln lf dk (Hla v) (Htf v) (Htk v) (Int32.ofNat k) = some e := he
  show fX1_dish ln lf dk (Hla v) (-1000000) (Htk tv) (Int32.ofNat k) = some e
  unfold fX1_dish at he ⊢
  rw [hn, if_neg (nNone k6)] at he
  rw [if_neg (nNone k6)]
  exact he
end SY
