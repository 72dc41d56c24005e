/-! THE PLAIN LAW 20: ranks - the waits, joined -/
set_option maxRecDepth 100000
def qA (A : AH) (Q : Nat → Nat) : AH := mkH (zN A) (zF A) (zC A) (zY A) (zM A) (zro A) (zrp A) (zK A) (zH A) (zA A) (zT A) (zX A) (zG A) Q
def wS (A : AH) : Nat → Int32
  | 0 => 0
  | k + 1 => wS A k + (Int32.ofNat (zN (pan k A)) - Int32.ofNat (cn (zN (pan k A)) (fun i => zH (pan k A) i == 2)))
theorem sub6 : ∀ a c : Fin 7, c.val ≤ a.val → Int32.ofNat a.val - Int32.ofNat c.val = Int32.ofNat (a.val - c.val) := by decide +kernel
section RK
variable {ln : Nat → Option Int32} {lf : Nat → Nat → Option Nat} {dk : Nat → Option Nat} {hv tv v : HV} {w : Nat → Int32} {A B : AH}
theorem OK.q (ok : OK A) {Q : Nat → Nat} (hQ : ∀ k, k < zN A → Q k < zN A) : OK (qA A Q) := by
  obtain ⟨k1, k2, k3, k4, k6⟩ := ok
  refine ⟨k1, k2, k3, k4, fun k hk => ?_⟩
  obtain ⟨b1, b2, b3, b4, b5, b6, b7, b8⟩ := k6 k hk
  exact ⟨b1, b2, b3, b4, b5, b6, b7, hQ k hk⟩
theorem SR.q (hS : SR ln lf dk v A) {Q : Nat → Nat} {ra : Nat → Int32} (h : ∀ k, k < zN A → ra k = Int32.ofNat (Q k)) : SR ln lf dk (SRA v ra) (qA A Q) := by
  obtain ⟨e1, e2, e3, e4, e5, e6, e7, e8⟩ := hS
  refine ⟨e1, e2, e3, e4, e5, e6, e7, fun k hk => ?_⟩
  have hk : k < zN A := hk
  obtain ⟨b1, b2, b3, b4, b5, b6, b7⟩ := e8 k hk
  exact ⟨b1, b2, b3, b4, b5, h k hk, b7⟩
theorem wS_nat (ok : OK A) : ∀ k, ∃ b : Nat, wS A k = Int32.ofNat b ∧ b ≤ 6 * k
  | 0 => ⟨0, rfl, Nat.le_refl _⟩
  | k + 1 => by
    obtain ⟨b, h1, h2⟩ := wS_nat ok k
    have hn : zN (pan k A) ≤ 6 := by rw [pan_N]; exact ok.1
    have hc : cn (zN (pan k A)) (fun i => zH (pan k A) i == 2) ≤ zN (pan k A) := cn_le _
    have := sub6 ⟨zN (pan k A), by omega⟩ ⟨cn (zN (pan k A)) (fun i => zH (pan k A) i == 2), by omega⟩ hc
    dsimp only at this
    refine ⟨b + (zN (pan k A) - cn (zN (pan k A)) (fun i => zH (pan k A) i == 2)), ?_, by omega⟩
    unfold wS
    rw [h1, this, oadd]
theorem waited_eq (hL : LV ln lf dk hv w A) (tv : HV) {m : Nat} (hm : m ≤ 40) {LI : Nat → Int32} {Q : Nat → Nat} (hQ : ∀ k, k < zN A → LI k = Int32.ofNat (Q k) ∧ Q k < zN A) : ∃ tv', fX0_waited ln lf dk hv tv LI (Int32.ofNat m) = some (wS (qA A Q) (m + 1), tv') := by
  have ok := hL.2.2.1
  have hM := hL.2.2.2.2.1
  have hN := ok.1
  obtain ⟨v1, t1, t2, t3⟩ := tried_eq hL tv
  have okq := ok.q (Q := Q) (fun k hk => (hQ k hk).2)
  have s0 : SR ln lf dk (SRA v1 (va_cpy LI (HRA v1) 0 0 6)) (qA A Q) := t2.q (fun k hk => (cpy6 (by omega)).trans (hQ k hk).1)
  obtain ⟨r, l1, l2⟩ := lp_inv (b := fX0_waited_b27 ln lf dk (Int32.ofNat m)) (s := (0, 0, SRA v1 (va_cpy LI (HRA v1) 0 0 6))) (fun (k : Nat) (s : Int32 × Int32 × HV) => s.1 = wS (qA A Q) k ∧ s.2.1 = Int32.ofNat k ∧ SR ln lf dk s.2.2 (pan (if k ≤ m then k else m) (qA A Q))) (fun (t : Int32 × HV) => t.1 = wS (qA A Q) (m + 1)) (m + 1) (FUlt (by omega)) (fun k hk s hI => by
    obtain ⟨a, i, z⟩ := s
    obtain ⟨i1, i2, i3⟩ := hI
    dsimp only at i1 i2 i3
    subst i1; subst i2
    unfold fX0_waited_b27
    dsimp only
    by_cases hlt : k < m + 1
    · left
      refine ⟨hlt, ?_⟩
      rw [if_pos (show k ≤ m by omega)] at i3
      have okk := okq.pan k
      have hnk : zN (pan k (qA A Q)) ≤ 6 := okk.1
      rw [if_neg (show ¬ Int32.ofNat m < Int32.ofNat k by intro h; have := (olt (by omega) (by omega)).mp h; omega), many_v i3, Option.bind_some, areSo2 okk i3, Option.bind_some, show fJ15_bitCount (svb (pan k (qA A Q))) = _ from bits_bs hnk _, Option.bind_some, o1]
      by_cases c : k = m
      · subst c
        rw [if_pos (Int32.le_refl _)]
        refine ⟨_, rfl, rfl, rfl, ?_⟩
        dsimp only
        rw [if_neg (by omega)]
        exact i3
      · obtain ⟨v2, g1, g2, -⟩ := pass_eq okk (by rw [pan_M]; show zM A + k < _; omega) i3
        rw [if_neg (nle (a := m) (b := k) (by omega) (by omega) (by omega)), g1, Option.bind_some]
        refine ⟨_, rfl, rfl, rfl, ?_⟩
        dsimp only
        rw [if_pos (by omega)]
        exact g2
    · right
      have : k = m + 1 := by omega
      subst this
      rw [if_pos ((olt (by omega) (by omega)).mpr (by omega))]
      exact ⟨_, rfl, rfl⟩) ⟨rfl, rfl, by rw [if_pos (Nat.zero_le _)]; exact s0⟩
  obtain ⟨a, z⟩ := r
  dsimp only at l2
  unfold fX0_waited
  rw [t1, Option.bind_some, Option.bind_some, l1, Option.bind_some, l2]
  exact ⟨_, rfl⟩
theorem MR.q {u : Nat → Int32} (hm : MR w 43 A) (hN : zN A ≤ 6) {Q : Nat → Nat} (h1 : ∀ k, k < zN A → u (80 + k) = Int32.ofNat (Q k)) (h2 : ∀ j, (j < 80 ∨ 80 + zN A ≤ j) → u j = w j) : MR u 43 (qA A Q) := by
  obtain ⟨m0, m1, m2, m3, m4, m5, m6, m7⟩ := hm
  refine ⟨?_, ?_, ?_, ?_, ?_, ?_, ?_, fun k hk => ?_⟩
  · rw [h2 _ (by omega)]; exact m0
  · rw [h2 _ (by omega)]; exact m1
  · rw [h2 _ (by omega)]; exact m2
  · rw [h2 _ (by omega)]; exact m3
  · rw [h2 _ (by omega)]; exact m4
  · rw [h2 _ (by omega)]; exact m5
  · rw [h2 _ (by omega)]; exact m6
  · have hk : k < zN A := hk
    obtain ⟨b1, b2, b3, b4, b5, b6⟩ := m7 k hk
    refine ⟨?_, ?_, ?_, ?_, ?_, h1 k hk⟩
    · rw [h2 _ (by omega)]; exact b1
    · rw [h2 _ (by omega)]; exact b2
    · rw [h2 _ (by omega)]; exact b3
    · rw [h2 _ (by omega)]; exact b4
    · rw [h2 _ (by omega)]; exact b5
theorem waitsBy_eq (hL : LV ln lf dk hv w A) {m : Nat} (hm : m ≤ 40) {OR1 : Nat → Int32} {Q : Nat → Nat} (hQ : ∀ k, k < zN A → OR1 k = Int32.ofNat (Q k) ∧ Q k < zN A) : ∃ w', fX9_waitsBy w OR1 (Int32.ofNat m) = some (wS (qA A Q) (m + 1), w') ∧ FR w w' 43 := by
  have ok := hL.2.2.1
  have hM := hL.2.2.2.2.1
  have hN := ok.1
  obtain ⟨w1, u1, u2, u3, u4⟩ := tries_eq ok.1 hL.2.1
  have okq := ok.q (Q := Q) (fun k hk => (hQ k hk).2)
  have e0 : ∀ u : Nat → Int32, FR w u 43 → rd u 1247 0 = some (Int32.ofNat (zN A)) := fun u hu => (r0n (c := 0) (by omega)).trans (by rw [hu 0 (by omega), show w 0 = _ from hL.2.1.1])
  obtain ⟨r2, l1, l2, l3⟩ := lp_inv (b := fX9_waitsBy_b6 OR1) (s := (0, w1)) (fun (k : Nat) (s : Int32 × (Nat → Int32)) => s.1 = Int32.ofNat k ∧ (∀ j, j < k → s.2 (80 + j) = Int32.ofNat (Q j)) ∧ ∀ j, (j < 80 ∨ 80 + k ≤ j) → s.2 j = w1 j) (fun (t : Nat → Int32) => (∀ j, j < zN A → t (80 + j) = Int32.ofNat (Q j)) ∧ ∀ j, (j < 80 ∨ 80 + zN A ≤ j) → t j = w1 j) (zN A) (FUlt (by omega)) (fun k hk s hI => by
    obtain ⟨i, z⟩ := s
    obtain ⟨i1, i2, i3⟩ := hI
    dsimp only at i1 i2 i3
    subst i1
    unfold fX9_waitsBy_b6
    dsimp only
    rw [e0 z (fun j hj => by rw [i3 j (by omega)]; exact u4 j hj), Option.bind_some]
    by_cases hlt : k < zN A
    · left
      refine ⟨hlt, ?_⟩
      rw [if_neg (nle (a := zN A) (b := k) (by omega) (by omega) hlt), rdn (k := k) (by omega) (by omega), (hQ k hlt).1, Option.bind_some, show wr z 1247 (80 + Int32.ofNat k) (Int32.ofNat (Q k)) = _ from wre (80 + k) (by rw [show (80 : Int32) = Int32.ofNat 80 from rfl, oadd]) (by omega) (by omega), Option.bind_some, o1]
      refine ⟨_, rfl, rfl, fun j hj => ?_, fun j hj => ?_⟩
      · dsimp only
        by_cases e : j = k
        · subst e; rw [upd_same]
        · rw [upd_ne (by omega)]; exact i2 j (by omega)
      · dsimp only
        rw [upd_ne (by omega)]; exact i3 j (by omega)
    · right
      have : k = zN A := by omega
      subst this
      rw [if_pos (yle (a := zN A) (b := zN A) (by omega) (by omega) (Nat.le_refl _))]
      exact ⟨_, rfl, i2, i3⟩) ⟨rfl, fun j h => by omega, fun j _ => rfl⟩
  have hq := u2.q hN l2 l3
  have hF2 : FR w r2 43 := fun j hj => by rw [l3 j (by omega)]; exact u4 j hj
  obtain ⟨r, g1, g2, g3⟩ := lp_inv (b := fX9_waitsBy_b41 (Int32.ofNat m)) (s := (0, 0, r2)) (fun (k : Nat) (s : Int32 × Int32 × (Nat → Int32)) => s.1 = wS (qA A Q) k ∧ s.2.1 = Int32.ofNat k ∧ MR s.2.2 43 (pan k (qA A Q)) ∧ FR w s.2.2 43) (fun (t : Int32 × (Nat → Int32)) => t.1 = wS (qA A Q) (m + 1) ∧ FR w t.2 43) (m + 1) (FUlt (by omega)) (fun k hk s hI => by
    obtain ⟨a, i, z⟩ := s
    obtain ⟨i1, i2, i3, i4⟩ := hI
    dsimp only at i1 i2 i3 i4
    subst i1; subst i2
    unfold fX9_waitsBy_b41
    dsimp only
    by_cases hlt : k < m + 1
    · left
      refine ⟨hlt, ?_⟩
      have okk := okq.pan k
      have hnk : zN (pan k (qA A Q)) ≤ 6 := okk.1
      obtain ⟨w2, f1, f2, f3⟩ := passes_eq (r := 43) (by omega) okk (by rw [pan_M]; show zM A + k < _; omega) i3
      rw [if_neg (show ¬ Int32.ofNat m < Int32.ofNat k by intro h; have := (olt (by omega) (by omega)).mp h; omega), e0 z i4, Option.bind_some, show fX9_servedOf z 43 = _ from servedOf_v (r := 43) (by omega) okk i3, Option.bind_some, show fX9_ones (svb (pan k (qA A Q))) = _ from ones_bs hnk _, Option.bind_some, show fX9_passes z 43 = some w2 from f1, Option.bind_some, o1]
      refine ⟨_, rfl, ?_, rfl, f2, i4.trans f3⟩
      show _ = wS (qA A Q) k + (Int32.ofNat (zN (pan k (qA A Q))) - _)
      rw [pan_N]; rfl
    · right
      have : k = m + 1 := by omega
      subst this
      rw [if_pos ((olt (by omega) (by omega)).mpr (by omega))]
      exact ⟨_, rfl, rfl, i4⟩) ⟨rfl, rfl, hq, hF2⟩
  obtain ⟨a, z⟩ := r
  dsimp only at g2 g3
  unfold fX9_waitsBy
  rw [u1, Option.bind_some, l1, Option.bind_some, g1, Option.bind_some, g2]
  exact ⟨_, rfl, g3⟩
/-- the two bests -/
def Rb (s m : Int32) : Prop := (s = (-1000000) ∧ m = 100000000) ∨ (s = m ∧ ∃ b : Nat, b ≤ 300 ∧ s = Int32.ofNat b)
theorem leaf_s (hL : LV ln lf dk hv w A) {m : Nat} (hm : m ≤ 40) (s fl : Int32) (hfl : ¬ fl = 0) (LI BE : Nat → Int32) (tv : HV) {Q : Nat → Nat} (hQ : ∀ k, k < zN A → LI k = Int32.ofNat (Q k) ∧ Q k < zN A) {fl2 : Int32} {LI2 : Nat → Int32} (hx : nx (Int32.ofNat (zN A)) LI = some (fl2, LI2)) :
    ∃ BE2 tv2, fX0_ranks_b53 ln lf dk hv (Int32.ofNat m) (s, fl, LI, BE, tv) = some (.inl ((if s = (-1000000) then wS (qA A Q) (m + 1) else if s ≤ wS (qA A Q) (m + 1) then s else wS (qA A Q) (m + 1)), fl2, LI2, BE2, tv2)) ∧
      ((¬ s = (-1000000) ∧ s ≤ wS (qA A Q) (m + 1) → BE2 = BE) ∧ (¬ (¬ s = (-1000000) ∧ s ≤ wS (qA A Q) (m + 1)) → ∀ k, k < 6 → BE2 k = LI k)) := by
  obtain ⟨tv2, h1⟩ := waited_eq hL tv hm hQ
  have hn : fX0_isNext ln hv LI = some (fl2, LI2) := by
    unfold fX0_isNext
    rw [many_v hL.1, Option.bind_some]
    exact hx
  unfold fX0_ranks_b53
  dsimp only
  rw [if_neg hfl, h1, Option.bind_some]
  dsimp only
  by_cases c1 : s = (-1000000)
  · rw [if_pos c1, if_pos c1, Option.bind_some, hn, Option.bind_some]
    exact ⟨_, _, rfl, fun h => absurd c1 h.1, fun _ k hk => cpy6 hk⟩
  · rw [if_neg c1, if_neg c1]
    by_cases c2 : s ≤ wS (qA A Q) (m + 1)
    · rw [if_pos c2, if_pos c2, Option.bind_some, hn, Option.bind_some]
      exact ⟨_, _, rfl, fun _ => rfl, fun h => absurd ⟨c1, c2⟩ h⟩
    · rw [if_neg c2, if_neg c2, Option.bind_some, hn, Option.bind_some]
      exact ⟨_, _, rfl, fun h => absurd h.2 c2, fun _ k hk => cpy6 hk⟩
theorem leaf_m (hL : LV ln lf dk hv w A) {m : Nat} (hm : m ≤ 40) (s : Int32) (OR1 BO : Nat → Int32) {Q : Nat → Nat} (hQ : ∀ k, k < zN A → OR1 k = Int32.ofNat (Q k) ∧ Q k < zN A) :
    ∃ BO2 w2, fX9_bestRanks_b12 (Int32.ofNat m) (s, Int32.ofNat (zN A), w, OR1, BO) = some (.inl ((if s ≤ wS (qA A Q) (m + 1) then s else wS (qA A Q) (m + 1)), Int32.ofNat (zN A) + (-1), w2, OR1, BO2)) ∧ FR w w2 43 ∧
      ((s ≤ wS (qA A Q) (m + 1) → BO2 = BO) ∧ (¬ s ≤ wS (qA A Q) (m + 1) → ∀ k, k < zN A → BO2 k = OR1 k)) := by
  have hN := hL.2.2.1.1
  have hN1 := hL.2.2.2.1
  obtain ⟨w2, h1, h2⟩ := waitsBy_eq hL hm hQ
  have e0 : ∀ u : Nat → Int32, FR w u 43 → rd u 1247 0 = some (Int32.ofNat (zN A)) := fun u hu => (r0n (c := 0) (by omega)).trans (by rw [hu 0 (by omega), show w 0 = _ from hL.2.1.1])
  obtain ⟨r3, l1, -⟩ := lp_inv (b := fX9_bestRanks_b22 (s, Int32.ofNat (zN A), w, OR1, BO)) (s := (0, 0)) (fun (k : Nat) (x : Int32 × Int32) => x.2 = Int32.ofNat k) (fun (_ : Int32) => True) (zN A) (FUlt (by omega)) (fun k hk x hI => by
    obtain ⟨a, i⟩ := x
    dsimp only at hI
    subst hI
    unfold fX9_bestRanks_b22
    dsimp only
    by_cases hlt : k < zN A
    · left
      rw [if_neg (nle (a := zN A) (b := k) (by omega) (by omega) hlt), rdn (k := k) (by omega) (by omega), Option.bind_some, o1]
      exact ⟨hlt, _, rfl, rfl⟩
    · right
      have : k = zN A := by omega
      subst this
      rw [if_pos (yle (a := zN A) (b := zN A) (by omega) (by omega) (Nat.le_refl _))]
      exact ⟨_, rfl, trivial⟩) rfl
  have l2 : ∃ BO2, lp (fX9_bestRanks_b68 (s, Int32.ofNat (zN A), w, OR1, BO) (wS (qA A Q) (m + 1), w2)) FU (0, BO) = some BO2 ∧ ((s ≤ wS (qA A Q) (m + 1) → BO2 = BO) ∧ (¬ s ≤ wS (qA A Q) (m + 1) → ∀ k, k < zN A → BO2 k = OR1 k)) := by
    refine lp_inv (fun (k : Nat) (x : Int32 × (Nat → Int32)) => x.1 = Int32.ofNat k ∧ (s ≤ wS (qA A Q) (m + 1) → x.2 = BO) ∧ (¬ s ≤ wS (qA A Q) (m + 1) → ∀ j, j < k → x.2 j = OR1 j)) _ (zN A) (FUlt (by omega)) (fun k hk x hI => ?_) ⟨rfl, fun _ => rfl, fun _ j h => by omega⟩
    obtain ⟨a, z⟩ := x
    obtain ⟨i1, i2, i3⟩ := hI
    dsimp only at i1 i2 i3
    subst i1
    unfold fX9_bestRanks_b68
    dsimp only
    rw [e0 w2 h2, Option.bind_some]
    by_cases hlt : k < zN A
    · rw [if_neg (nle (a := zN A) (b := k) (by omega) (by omega) hlt)]
      by_cases c : s ≤ wS (qA A Q) (m + 1)
      · right
        rw [if_pos c]
        exact ⟨_, rfl, i2, fun h => absurd c h⟩
      · left
        rw [if_neg c, rdn (k := k) (by omega) (by omega), Option.bind_some, wrn (k := k) (by omega) (by omega), Option.bind_some, o1]
        refine ⟨hlt, _, rfl, rfl, fun h => absurd h c, fun _ j hj => ?_⟩
        dsimp only
        by_cases e : j = k
        · subst e; rw [upd_same]
        · rw [upd_ne e]; exact i3 c j (by omega)
    · right
      have : k = zN A := by omega
      subst this
      rw [if_pos (yle (a := zN A) (b := zN A) (by omega) (by omega) (Nat.le_refl _))]
      exact ⟨_, rfl, i2, i3⟩
  obtain ⟨BO2, l3, l4⟩ := l2
  unfold fX9_bestRanks_b12
  dsimp only
  rw [if_neg (nneg (k := zN A) (by omega)), l1, Option.bind_some, e0 w (fun i _ => rfl), Option.bind_some, if_pos rfl, h1, Option.bind_some, l3, Option.bind_some]
  dsimp only
  by_cases c : s ≤ wS (qA A Q) (m + 1)
  · rw [if_pos c, if_pos c]; exact ⟨_, _, rfl, h2, l4⟩
  · rw [if_neg c, if_neg c]; exact ⟨_, _, rfl, h2, l4⟩
end RK
