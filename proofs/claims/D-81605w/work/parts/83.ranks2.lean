/-! THE PLAIN LAW 19: ranks - both loops -/
set_option maxRecDepth 100000
/-- agreement up to the depth d -/
def Ed (d : Int32) (f g : Nat → Int32) : Prop := ∀ i : Int32, i ≤ d → rd f 7 i = rd g 7 i
theorem Ed_E {f g : Nat → Int32} {d : Int32} (h : ∀ k, k < 7 → f k = g k) : Ed d f g := fun i _ => congrFun (E_at (n := 7) h) i
theorem wr_up {f g : Nat → Int32} {i x : Int32} (h : wr f 7 i x = some g) : ¬ (i < 0 ∨ 7 ≤ i.toNatClampNeg) ∧ g = upd f i.toNatClampNeg x := by
  unfold wr at h
  split at h
  · cases h
  · next c => exact ⟨c, (Option.some.inj h).symm⟩
theorem tn_inj {i j : Int32} (hi : ¬ i < 0) (hj : ¬ j < 0) (h : i.toNatClampNeg = j.toNatClampNeg) : i = j := by
  rw [lt0_i] at hi hj
  obtain ⟨a, rfl, ha, -⟩ := i32_of (p := i) (by omega)
  obtain ⟨b, rfl, hb, -⟩ := i32_of (p := j) (by omega)
  rw [tnc ha, tnc hb] at h
  rw [h]
theorem rd_upd {f : Nat → Int32} {i x : Int32} (hi : ¬ (i < 0 ∨ 7 ≤ i.toNatClampNeg)) (j : Int32) : rd (upd f i.toNatClampNeg x) 7 j = if j = i then some x else rd f 7 j := by
  by_cases e : j = i
  · subst e
    rw [if_pos rfl]
    unfold rd
    rw [if_neg hi, upd_same]
  · rw [if_neg e]
    unfold rd
    by_cases c : j < 0 ∨ 7 ≤ j.toNatClampNeg
    · rw [if_pos c, if_pos c]
    · rw [if_neg c, if_neg c, upd_ne (fun h => e (tn_inj (fun q => c (Or.inl q)) (fun q => hi (Or.inl q)) h))]
/-- one step that is no full order, told of the true machine -/
theorem b12_step {N : Nat} (hN : N ≤ 6) {d p1 best : Int32} {w OR0 OR1 BO : Nat → Int32} {y : Int32 × Int32 × (Nat → Int32) × (Nat → Int32) × (Nat → Int32)} (hw : w 0 = Int32.ofNat N) (hd : ¬ d = Int32.ofNat N) (hA : Ed d OR1 OR0)
    (hs : fX9_bestRanks_b12 0 (0, d, wN N, OR0, fun _ => 0) = some (.inl y)) (hle : y.2.2.2.1 d.toNatClampNeg ≤ Int32.ofNat N) :
    ∃ OR2, fX9_bestRanks_b12 p1 (best, d, w, OR1, BO) = some (.inl (best, y.2.1, w, OR2, BO)) ∧ Ed y.2.1 OR2 y.2.2.2.1 := by
  have e0 : ∀ u : Nat → Int32, u 0 = Int32.ofNat N → rd u 1247 0 = some (Int32.ofNat N) := fun u hu => (r0n (c := 0) (by omega)).trans (by rw [hu])
  have e22 : fX9_bestRanks_b22 (best, d, w, OR1, BO) = fX9_bestRanks_b22 (0, d, wN N, OR0, fun _ => 0) := by
    funext x
    unfold fX9_bestRanks_b22
    dsimp only
    by_cases c : d ≤ x.2
    · rw [if_pos c, if_pos c]
    · rw [if_neg c, if_neg c, hA x.2 (Int32.le_of_lt (Int32.not_le.mp c))]
  have e134 : ∀ r3, fX9_bestRanks_b134 (best, d, w, OR1, BO) r3 = fX9_bestRanks_b134 (0, d, wN N, OR0, fun _ => 0) r3 := fun r3 => by
    funext x
    unfold fX9_bestRanks_b134
    dsimp only
    rw [e0 w hw, e0 (wN N) rfl]
  unfold fX9_bestRanks_b12 at hs ⊢
  dsimp only at hs ⊢
  rw [e22, e0 w hw, hA d (Int32.le_refl _)]
  rw [e0 (wN N) rfl] at hs
  by_cases c0 : d < 0
  · rw [if_pos c0] at hs; cases hs
  rw [if_neg c0] at hs ⊢
  obtain ⟨r3, h3, hs⟩ := op_e hs
  rw [h3, Option.bind_some]
  rw [Option.bind_some, if_neg hd] at hs ⊢
  obtain ⟨v10, h10, hs⟩ := op_e hs
  rw [h10, Option.bind_some, e134]
  obtain ⟨r11, h11, hs⟩ := op_e hs
  rw [h11, Option.bind_some]
  obtain ⟨w12, h12, hs⟩ := op_e hs
  obtain ⟨g1, g2⟩ := wr_up h12
  have h12' : wr OR1 7 d r11 = some (upd OR1 d.toNatClampNeg r11) := by unfold wr; rw [if_neg g1]
  rw [h12', Option.bind_some]
  rw [Option.bind_some] at hs ⊢
  have hE : Ed d (upd OR1 d.toNatClampNeg r11) w12 := fun i hi => by
    rw [g2, rd_upd g1, rd_upd g1]
    by_cases e : i = d
    · rw [if_pos e, if_pos e]
    · rw [if_neg e, if_neg e]; exact hA i hi
  have hd7 : d.toNatClampNeg < 7 := by
    have := fun h => g1 (Or.inr h)
    omega
  obtain ⟨dn, rfl, hdn, -⟩ := i32_of (p := d) (by rw [lt0_i] at c0; omega)
  rw [tnc hdn] at hd7 hle
  by_cases c1 : r11 = Int32.ofNat N
  · rw [if_pos c1, Option.bind_some, Option.bind_some, if_pos (by rw [c1]; exact Int32.le_refl _)] at hs
    rw [if_pos c1, Option.bind_some, Option.bind_some, if_pos (by rw [c1]; exact Int32.le_refl _)]
    cases hs
    refine ⟨_, rfl, fun i hi => hE i ?_⟩
    dsimp only at hi
    have hm1 : Int32.ofNat dn + (-1) ≤ Int32.ofNat dn := by
      have h : ∀ k : Fin 7, Int32.ofNat k.val + (-1) ≤ Int32.ofNat k.val := by decide +kernel
      exact h ⟨dn, hd7⟩
    exact Int32.le_trans hi hm1
  · rw [if_neg c1, Option.bind_some, Option.bind_some] at hs
    rw [if_neg c1, Option.bind_some, Option.bind_some]
    by_cases c2 : Int32.ofNat N ≤ r11
    · exfalso
      rw [if_pos c2] at hs
      cases hs
      dsimp only at hle
      rw [g2, tnc hdn, upd_same] at hle
      exact c1 (Int32.le_antisymm hle c2)
    · rw [if_neg c2] at hs
      rw [if_neg c2]
      obtain ⟨w16, h16, hs⟩ := op_e hs
      obtain ⟨k1, k2⟩ := wr_up h16
      have h16' : wr (upd OR1 (Int32.ofNat dn).toNatClampNeg r11) 7 (Int32.ofNat dn + 1) (-1) = some (upd (upd OR1 (Int32.ofNat dn).toNatClampNeg r11) (Int32.ofNat dn + 1).toNatClampNeg (-1)) := by unfold wr; rw [if_neg k1]
      rw [h16', Option.bind_some]
      cases hs
      refine ⟨_, rfl, fun i hi => ?_⟩
      dsimp only at hi ⊢
      rw [k2, rd_upd k1, rd_upd k1]
      by_cases e : i = Int32.ofNat dn + 1
      · rw [if_pos e, if_pos e]
      · rw [if_neg e, if_neg e]
        refine hE i ?_
        rw [o1] at hi e
        rw [Int32.le_iff_toInt_le, Int32.toInt_ofNat_of_lt (by omega)] at hi ⊢
        have : i.toInt ≠ ((dn + 1 : Nat) : Int) := fun h => e (by rw [← Int32.toInt_inj, h, Int32.toInt_ofNat_of_lt (by omega)])
        omega
theorem b12_end {N : Nat} {d p1 best : Int32} {w OR0 OR1 BO : Nat → Int32} {t : Int32 × (Nat → Int32) × (Nat → Int32) × (Nat → Int32)} (hd : ¬ d = Int32.ofNat N)
    (hs : fX9_bestRanks_b12 0 (0, d, wN N, OR0, fun _ => 0) = some (.inr t)) : fX9_bestRanks_b12 p1 (best, d, w, OR1, BO) = some (.inr (best, w, OR1, BO)) := by
  unfold fX9_bestRanks_b12 at hs ⊢
  dsimp only at hs ⊢
  by_cases c0 : d < 0
  · rw [if_pos c0]
  · exfalso
    rw [if_neg c0] at hs
    obtain ⟨r3, h3, hs⟩ := op_e hs
    obtain ⟨v4, h4, hs⟩ := op_e hs
    have hv4 : v4 = Int32.ofNat N := by
      have e : rd (wN N) 1247 0 = some (Int32.ofNat N) := r0n (c := 0) (by omega)
      rw [e] at h4; exact (Option.some.inj h4).symm
    rw [hv4, if_neg hd] at hs
    obtain ⟨v10, h10, hs⟩ := op_e hs
    obtain ⟨r11, h11, hs⟩ := op_e hs
    obtain ⟨w12, h12, hs⟩ := op_e hs
    obtain ⟨v13, h13, hs⟩ := op_e hs
    obtain ⟨j14, h14, hs⟩ := op_e hs
    obtain ⟨v15, h15, hs⟩ := op_e hs
    split at hs
    · cases hs
    · obtain ⟨w16, h16, hs⟩ := op_e hs
      cases hs
theorem lp_one {S T : Type} {b : S → Option (S ⊕ T)} {s s' : S} (h : b s = some (.inl s')) (f : Nat) : lp b (f + 1) s = lp b f s' := by
  rw [lp]
  rw [h, Option.bind_some]
theorem lp_end {S T : Type} {b : S → Option (S ⊕ T)} {s : S} {t : T} (h : b s = some (.inr t)) (f : Nat) : lp b (f + 1) s = some t := by
  rw [lp]
  rw [h, Option.bind_some]
/-- the walk to the next full order, told of the true machine -/
theorem rn_sim {N : Nat} (hN : N ≤ 6) {p1 best : Int32} {w BO : Nat → Int32} (hw : w 0 = Int32.ofNat N) : ∀ (f : Nat) (d : Int32) (l : List Int32) (OR1 : Nat → Int32) (res : Option (List Int32)), rnM N f d l = some res → Ed d OR1 (arr l) →
    ∃ n, n ≤ f ∧ ∃ OR2, (∀ lM, res = some lM → (∀ g, lp (fX9_bestRanks_b12 p1) (g + n) (best, d, w, OR1, BO) = lp (fX9_bestRanks_b12 p1) g (best, Int32.ofNat N, w, OR2, BO)) ∧ Ed (Int32.ofNat N) OR2 (arr lM)) ∧ (res = none → ∀ g, lp (fX9_bestRanks_b12 p1) (g + n + 1) (best, d, w, OR1, BO) = some (best, w, OR2, BO)) := by
  intro f
  induction f with
  | zero => intro d l OR1 res h; cases h
  | succ f ih =>
    intro d l OR1 res h hA
    rw [rnM] at h
    by_cases c : d = Int32.ofNat N
    · rw [if_pos c] at h
      cases h
      refine ⟨0, by omega, OR1, fun lM e => ?_, fun e => by cases e⟩
      cases e
      subst c
      exact ⟨fun g => rfl, hA⟩
    · rw [if_neg c] at h
      obtain ⟨y, hy, h⟩ := op_e h
      cases y with
      | inr t =>
        dsimp only at h
        cases h
        exact ⟨0, by omega, OR1, fun lM e => (by cases e), fun _ g => lp_end (b12_end c hy) g⟩
      | inl y =>
        dsimp only at h
        by_cases c2 : y.2.2.2.1 d.toNatClampNeg ≤ Int32.ofNat N
        · rw [if_pos c2, pick_eq, tabK_eq] at h
          obtain ⟨OR2, s1, s2⟩ := b12_step hN (p1 := p1) (best := best) (BO := BO) hw c hA hy c2
          obtain ⟨n, hn, OR3, k1, k2⟩ := ih _ _ OR2 res h (fun i hi => (s2 i hi).trans (congrFun (E_at (n := 7) (fun k hk => (arr_tab hk).symm)) i))
          refine ⟨n + 1, by omega, OR3, fun lM e => ?_, fun e g => ?_⟩
          · obtain ⟨m1, m2⟩ := k1 lM e
            exact ⟨fun g => (lp_one s1 (g + n)).trans (m1 g), m2⟩
          · have := k2 e g
            rw [show g + (n + 1) + 1 = (g + n + 1) + 1 by omega, lp_one s1]
            exact this
        · rw [if_neg c2] at h; cases h
