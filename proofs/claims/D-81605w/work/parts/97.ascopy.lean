/-! THE PLAIN LAW 32: as, copy -/
set_option maxRecDepth 100000
theorem isA_fin : ∀ c : Fin 6, ∀ K : Fin 5, fX9_isA (Int32.ofNat (K.val + 1)) (Int32.ofNat c.val) = some (if c.val = 0 ∨ castK (c.val - 1) K.val = true then 1 else 0) := by decide +kernel
section AC
variable {ln : Nat → Option Int32} {lf : Nat → Nat → Option Nat} {dk : Nat → Option Nat} {dn : Nat → Int32} {hv : HV} {w : Nat → Int32}
theorem act_as (hT : TV ln lf dk hv w) (hG : GD ln lf dn) (gs p1 p2 : Int32) : ∃ ans st, fX0_as ln lf dk dn hv gs p1 p2 = some (ans, st) ∧ fX9_as w gs p1 p2 = some (ans, st) := by
  rcases hT with hE | ⟨A, hL⟩
  · refine ⟨-1000001, gs, ?_, ?_⟩
    · unfold fX0_as
      rw [isDish_s hE.1 (by omega), Option.bind_some, g01, if_neg (by omega)]
    · unfold fX9_as
      rw [isDish_m hE.2.2.2.1 (by omega), Option.bind_some, g01, if_neg (by omega)]
  · obtain ⟨hS, hm, ok, hN1, hM, hn⟩ := hL
    have hN6 := ok.1
    have hD := isDish_s hS.1 (by omega) p1
    have hD' := isDish_m (w := w) (by rw [← hm.1]) (show zN A < 10 by omega) p1
    unfold fX0_as fX9_as
    rw [hD, hD', Option.bind_some, Option.bind_some, g01, g01]
    by_cases c1 : 0 ≤ p1.toInt ∧ p1.toInt < zN A
    · rw [if_pos c1, if_pos c1, in_same, show fX0_isIn p2.toInt64 0 5 = _ from inl_eq p2 0 5 (by omega) (by omega), Option.bind_some, Option.bind_some, g01, g01]
      by_cases c2 : ((0 : Nat) : Int) ≤ p2.toInt ∧ p2.toInt ≤ ((5 : Nat) : Int)
      · rw [if_pos c2, if_pos c2]
        obtain ⟨d, rfl, hd1, hd2⟩ := i32_of c1.1
        have hd : d < zN A := by omega
        have d6 : d < 6 := by omega
        obtain ⟨c, rfl, hc1, hc2⟩ := i32_of c2.1
        have hc5 : c < 6 := by omega
        obtain ⟨b1, -⟩ := ok.2.2.2.2 d hd
        obtain ⟨s1, s2, s3, s4, s5, s6, e, s7, s8⟩ := hS.2.2.2.2.2.2.2 d hd
        obtain ⟨n1, -⟩ := hm.2.2.2.2.2.2.2 d hd
        simp only [Nat.zero_add] at n1
        have hlg := dish_list hn d6 s7
        have hnum : fdish_number dk dn e = some (dn e) := by unfold fdish_number; rw [s8, Option.bind_some]
        have hdn := hG _ d e hlg d6
        rw [hlg, Option.bind_some, s8, Option.bind_some, show rd w 1247 (7 + Int32.ofNat d) = some (w (7 + d)) from rdc (c := 7) (by omega), Option.bind_some, n1, isA_fin ⟨c, hc5⟩ ⟨zK A d, b1⟩, Option.bind_some, g01, hnum]
        have good : ((some (dn e)).bind fun v8 => (fX0_well v8).bind fun q9 => some (q9.1, q9.2) : Option (Int32 × Int32)) = some (Int32.ofNat d, 0) := by rw [Option.bind_some, hdn]; rfl
        have bad : ((fX0_found 3).bind fun q11 => some (q11.1, q11.2) : Option (Int32 × Int32)) = some (-1000010 - 3, 3) := rfl
        have badm : ((fX9_finds 3).bind fun q11 => some (q11.1, q11.2) : Option (Int32 × Int32)) = some (-1000010 - 3, 3) := rfl
        have hcs : c = 0 ∨ c = 1 ∨ c = 2 ∨ c = 3 ∨ c = 4 ∨ c = 5 := by omega
        rw [good, bad, badm]
        rcases hcs with rfl | rfl | rfl | rfl | rfl | rfl
        · rw [if_pos (show Int32.ofNat 0 = 0 from rfl), if_pos (Or.inl rfl)]
          exact ⟨_, _, rfl, rfl⟩
        · rw [if_neg (show ¬ Int32.ofNat 1 = 0 by decide), if_pos (show Int32.ofNat 1 = 1 from rfl)]
          by_cases hk : castK 0 (zK A d) = true
          · rw [if_pos hk]; exact ⟨_, _, rfl, if_pos (Or.inr hk)⟩
          · rw [if_neg hk]; exact ⟨_, _, rfl, if_neg (fun h => Or.elim h (fun h => absurd (show (1 : Nat) = 0 from h) (by decide)) hk)⟩
        · rw [if_neg (show ¬ Int32.ofNat 2 = 0 by decide), if_neg (show ¬ Int32.ofNat 2 = 1 by decide), if_pos (show Int32.ofNat 2 = 2 from rfl)]
          by_cases hk : castK 1 (zK A d) = true
          · rw [if_pos hk]; exact ⟨_, _, rfl, if_pos (Or.inr hk)⟩
          · rw [if_neg hk]; exact ⟨_, _, rfl, if_neg (fun h => Or.elim h (fun h => absurd (show (2 : Nat) = 0 from h) (by decide)) hk)⟩
        · rw [if_neg (show ¬ Int32.ofNat 3 = 0 by decide), if_neg (show ¬ Int32.ofNat 3 = 1 by decide), if_neg (show ¬ Int32.ofNat 3 = 2 by decide), if_pos (show Int32.ofNat 3 = 3 from rfl)]
          by_cases hk : castK 2 (zK A d) = true
          · rw [if_pos hk]; exact ⟨_, _, rfl, if_pos (Or.inr hk)⟩
          · rw [if_neg hk]; exact ⟨_, _, rfl, if_neg (fun h => Or.elim h (fun h => absurd (show (3 : Nat) = 0 from h) (by decide)) hk)⟩
        · rw [if_neg (show ¬ Int32.ofNat 4 = 0 by decide), if_neg (show ¬ Int32.ofNat 4 = 1 by decide), if_neg (show ¬ Int32.ofNat 4 = 2 by decide), if_neg (show ¬ Int32.ofNat 4 = 3 by decide), if_pos (show Int32.ofNat 4 = 4 from rfl)]
          by_cases hk : castK 3 (zK A d) = true
          · rw [if_pos hk]; exact ⟨_, _, rfl, if_pos (Or.inr hk)⟩
          · rw [if_neg hk]; exact ⟨_, _, rfl, if_neg (fun h => Or.elim h (fun h => absurd (show (4 : Nat) = 0 from h) (by decide)) hk)⟩
        · rw [if_neg (show ¬ Int32.ofNat 5 = 0 by decide), if_neg (show ¬ Int32.ofNat 5 = 1 by decide), if_neg (show ¬ Int32.ofNat 5 = 2 by decide), if_neg (show ¬ Int32.ofNat 5 = 3 by decide), if_neg (show ¬ Int32.ofNat 5 = 4 by decide)]
          by_cases hk : castK 4 (zK A d) = true
          · rw [if_pos hk]; exact ⟨_, _, rfl, if_pos (Or.inr hk)⟩
          · rw [if_neg hk]; exact ⟨_, _, rfl, if_neg (fun h => Or.elim h (fun h => absurd (show (5 : Nat) = 0 from h) (by decide)) hk)⟩
      · rw [if_neg c2, if_neg c2]; exact ⟨_, _, rfl, rfl⟩
    · rw [if_neg c1, if_neg c1]; exact ⟨_, _, rfl, rfl⟩
end AC
section CO
variable {rs : Nat → Option Rw} {MA LA IT HE : Nat → Int32} {RW : Nat → Option Nat}
theorem row_ix_of {p : Int32} (h : 0 ≤ p.toInt ∧ p.toInt ≤ 7) : ∃ i : Nat, p = Int32.ofNat i ∧ i < 8 := by
  obtain ⟨i, rfl, h1, h2⟩ := i32_of h.1
  exact ⟨i, rfl, by omega⟩
theorem act_copy_0 (hR : RR rs MA LA IT) (gs p1 p2 p3 p4 p5 : Int32) (h : (0 ≤ p1.toInt ∧ p1.toInt ≤ 7) → (0 ≤ p3.toInt ∧ p3.toInt ≤ 7) → (rs p1.toNatClampNeg = none ∧ RW p1.toNatClampNeg = none) ∨ ((∃ x, rs p1.toNatClampNeg = some x) ∧ (∃ a, RW p1.toNatClampNeg = some a) ∧ rs p3.toNatClampNeg = none ∧ RW p3.toNatClampNeg = none)) :
    ∃ ans st, fX0_copy_0 gs RW p1 p3 = some (ans, st) ∧ fX9_copy MA LA IT HE gs p1 p2 p3 p4 p5 = some (ans, st, IT, HE) := by
  unfold fX0_copy_0 fX9_copy
  rw [isRow_s, isRow_m, Option.bind_some, Option.bind_some, g01, g01]
  by_cases c1 : 0 ≤ p1.toInt ∧ p1.toInt ≤ 7
  · rw [if_pos c1, if_pos c1, isRow_s, isRow_m, Option.bind_some, Option.bind_some, g01, g01]
    by_cases c3 : 0 ≤ p3.toInt ∧ p3.toInt ≤ 7
    · rw [if_pos c3, if_pos c3]
      have h := h c1 c3
      obtain ⟨i, rfl, hi⟩ := row_ix_of c1
      obtain ⟨j, rfl, hj⟩ := row_ix_of c3
      rw [tnc (by omega), tnc (by omega)] at h
      rcases h with ⟨h1, h2⟩ | ⟨⟨x, h1⟩, ⟨a, h2⟩, h3, h4⟩
      · have m1 := (hR i hi).1 h1
        rw [rowAt_none hi h2, Option.bind_some, rdn hi (by omega), Option.bind_some, m1, if_pos (show (-1 : Int32) < 0 by decide)]
        exact ⟨_, _, rfl, rfl⟩
      · have m1 := ((hR i hi).2 x h1)
        have m3 := (hR j hj).1 h3
        rw [rowAt_some hi h2, Option.bind_some, rdn hi (by omega), Option.bind_some, m1.2.1, if_neg (nneg (k := x.1) (by have := m1.1; omega))]
        dsimp only
        rw [rowAt_none hj h4, Option.bind_some, rdn hj (by omega), Option.bind_some, m3, if_neg (show ¬ (0 : Int32) ≤ -1 by decide)]
        exact ⟨_, _, rfl, rfl⟩
    · rw [if_neg c3, if_neg c3]; exact ⟨_, _, rfl, rfl⟩
  · rw [if_neg c1, if_neg c1]; exact ⟨_, _, rfl, rfl⟩
/-- the reference's two loops -/
theorem copy_loops {i j sp dp n : Nat} (hi : i < 8) (hj : j < 8) (h1 : sp + n ≤ 40) (h2 : dp + n ≤ 40) (IT HE : Nat → Int32) :
    ∃ r, lp (fX9_copy_b99 IT (Int32.ofNat i) (Int32.ofNat sp) (Int32.ofNat n)) FU (0, HE) = some r ∧ ∃ r2, lp (fX9_copy_b136 (Int32.ofNat j) (Int32.ofNat dp) (Int32.ofNat n) r) FU (0, IT) = some r2 ∧ (∀ k, k < n → r2 (40 * j + dp + k) = IT (40 * i + sp + k)) ∧ ∀ z, z < 40 * j + dp ∨ 40 * j + dp + n ≤ z → r2 z = IT z := by
  have l1 : ∃ r, lp (fX9_copy_b99 IT (Int32.ofNat i) (Int32.ofNat sp) (Int32.ofNat n)) FU (0, HE) = some r ∧ ∀ k, k < n → r k = IT (40 * i + sp + k) := by
    refine lp_inv (fun (k : Nat) (s : Int32 × (Nat → Int32)) => s.1 = Int32.ofNat k ∧ ∀ m, m < k → s.2 m = IT (40 * i + sp + m)) _ n (FUlt (by omega)) (fun k hk s hI => ?_) ⟨rfl, fun m h => by omega⟩
    obtain ⟨c, z⟩ := s
    obtain ⟨i1, i2⟩ := hI
    dsimp only at i1 i2
    subst i1
    unfold fX9_copy_b99
    dsimp only
    by_cases e : k = n
    · right
      rw [if_pos (yle (a := n) (b := k) (by omega) (by omega) (by omega))]
      subst e
      exact ⟨z, rfl, i2⟩
    · left
      refine ⟨by omega, (Int32.ofNat (k + 1), upd z k (IT (40 * i + sp + k))), ?_, rfl, ?_⟩
      · rw [if_neg (nle (a := n) (b := k) (by omega) (by omega) (by omega)), i320, oadd, rdn (show 40 * i + sp + k < 320 by omega) (by omega), Option.bind_some, wrn (show k < 40 by omega) (by omega), Option.bind_some, o1]
      · intro m hm
        show upd z k _ m = _
        by_cases ek : m = k
        · subst ek; exact upd_same
        · rw [upd_ne ek]; exact i2 m (by omega)
  obtain ⟨r, l1, l2⟩ := l1
  refine ⟨r, l1, ?_⟩
  have l3 : ∃ r2, lp (fX9_copy_b136 (Int32.ofNat j) (Int32.ofNat dp) (Int32.ofNat n) r) FU (0, IT) = some r2 ∧ (∀ k, k < n → r2 (40 * j + dp + k) = r k) ∧ ∀ z, z < 40 * j + dp ∨ 40 * j + dp + n ≤ z → r2 z = IT z := by
    refine lp_inv (fun (k : Nat) (s : Int32 × (Nat → Int32)) => s.1 = Int32.ofNat k ∧ (∀ m, m < k → s.2 (40 * j + dp + m) = r m) ∧ ∀ z, z < 40 * j + dp ∨ 40 * j + dp + k ≤ z → s.2 z = IT z) _ n (FUlt (by omega)) (fun k hk s hI => ?_) ⟨rfl, fun m h => by omega, fun z _ => rfl⟩
    obtain ⟨c, z⟩ := s
    obtain ⟨i1, i2, i3⟩ := hI
    dsimp only at i1 i2 i3
    subst i1
    unfold fX9_copy_b136
    dsimp only
    by_cases e : k = n
    · right
      rw [if_pos (yle (a := n) (b := k) (by omega) (by omega) (by omega))]
      subst e
      exact ⟨z, rfl, i2, i3⟩
    · left
      refine ⟨by omega, (Int32.ofNat (k + 1), upd z (40 * j + dp + k) (r k)), ?_, rfl, ?_, ?_⟩
      · rw [if_neg (nle (a := n) (b := k) (by omega) (by omega) (by omega)), rdn (show k < 40 by omega) (by omega), Option.bind_some, i320, oadd, wrn (show 40 * j + dp + k < 320 by omega) (by omega), Option.bind_some, o1]
      · intro m hm
        show upd z _ _ _ = _
        by_cases ek : m = k
        · subst ek; exact upd_same
        · rw [upd_ne (by omega)]; exact i2 m (by omega)
      · intro m hm
        show upd z _ _ _ = _
        rw [upd_ne (by omega)]; exact i3 m (by omega)
  obtain ⟨r2, m1, m2, m3⟩ := l3
  exact ⟨r2, m1, fun k hk => (m2 k hk).trans (l2 k hk), m3⟩
theorem acp_if {f g : Nat → Int32} {n0 n1 : Nat} {sp dp n : Int32} : acp f n0 sp g n1 dp n = if (0 ≤ sp.toInt ∧ 0 ≤ n.toInt ∧ sp.toInt + n.toInt ≤ n0) ∧ (0 ≤ dp.toInt ∧ 0 ≤ n.toInt ∧ dp.toInt + n.toInt ≤ n1) then some (va_cpy f g sp.toNatClampNeg dp.toNatClampNeg n.toNatClampNeg) else none := by
  have nn : ∀ z : Int32, 0 ≤ z.toInt → z.toInt = (z.toNatClampNeg : Int) := by
    intro z hz
    show z.toInt = ((z.toInt.toNat : Nat) : Int)
    omega
  unfold acp
  by_cases c : (0 ≤ sp.toInt ∧ 0 ≤ n.toInt ∧ sp.toInt + n.toInt ≤ n0) ∧ (0 ≤ dp.toInt ∧ 0 ≤ n.toInt ∧ dp.toInt + n.toInt ≤ n1)
  · obtain ⟨⟨a1, a2, a3⟩, b1, b2, b3⟩ := c
    have e1 := nn sp a1
    have e2 := nn n a2
    have e3 := nn dp b1
    rw [if_pos (show (0 ≤ sp.toInt ∧ 0 ≤ n.toInt ∧ sp.toInt + n.toInt ≤ n0) ∧ (0 ≤ dp.toInt ∧ 0 ≤ n.toInt ∧ dp.toInt + n.toInt ≤ n1) from ⟨⟨a1, a2, a3⟩, b1, b2, b3⟩), if_pos ⟨by rw [lt0_i]; omega, by rw [lt0_i]; omega, by rw [lt0_i]; omega, by omega, by omega⟩]
  · rw [if_neg c, if_neg (fun h => ?_)]
    obtain ⟨a1, a2, a3, a4, a5⟩ := h
    rw [lt0_i] at a1 a2 a3
    have e1 := nn sp (by omega)
    have e2 := nn n (by omega)
    have e3 := nn dp (by omega)
    exact c ⟨⟨by omega, by omega, by omega⟩, by omega, by omega, by omega⟩
/-- the reference, both rows there -/
theorem copy_m (hR : RR rs MA LA IT) (HE : Nat → Int32) (gs p2 p4 p5 : Int32) {i j n m : Nat} {l k : Int32} {I U : Nat → Int32} (hi : i < 8) (hj : j < 8) (hx : rs i = some (n, l, I)) (hz : rs j = some (m, k, U)) :
    (¬ l = k ∧ fX9_copy MA LA IT HE gs (Int32.ofNat i) p2 (Int32.ofNat j) p4 p5 = some (-1000010 - 5, 5, IT, HE)) ∨
    (l = k ∧ acp I n p2 U m p4 p5 = none ∧ fX9_copy MA LA IT HE gs (Int32.ofNat i) p2 (Int32.ofNat j) p4 p5 = some (-1000010 - 2, 2, IT, HE)) ∨
    (l = k ∧ ∃ V IT' HE', acp I n p2 U m p4 p5 = some V ∧ fX9_copy MA LA IT HE gs (Int32.ofNat i) p2 (Int32.ofNat j) p4 p5 = some (p5, 0, IT', HE') ∧ RR (nr rs j (some (m, k, V))) MA LA IT') := by
  have mi := (hR i hi).2 _ hx
  have mj := (hR j hj).2 _ hz
  dsimp only at mi mj
  unfold fX9_copy
  rw [isRow_m, Option.bind_some, g01, if_pos (show 0 ≤ (Int32.ofNat i).toInt ∧ (Int32.ofNat i).toInt ≤ 7 by rw [Int32.toInt_ofNat_of_lt (by omega)]; omega), isRow_m, Option.bind_some, g01, if_pos (show 0 ≤ (Int32.ofNat j).toInt ∧ (Int32.ofNat j).toInt ≤ 7 by rw [Int32.toInt_ofNat_of_lt (by omega)]; omega),
    rdn hi (by omega), Option.bind_some, mi.2.1, if_neg (nneg (k := n) (by have := mi.1; omega)), rdn hj (by omega), Option.bind_some, mj.2.1, if_pos (show (0 : Int32) ≤ Int32.ofNat m from Int32.not_lt.mp (nneg (k := m) (by have := mj.1; omega))), rdn hi (by omega), Option.bind_some, rdn hj (by omega), Option.bind_some, mi.2.2.1, mj.2.2.1]
  by_cases hl : l = k
  · rw [if_pos hl, ag_some hi mi.1 mi.2.1, Option.bind_some, acp_if]
    by_cases c1 : 0 ≤ p2.toInt ∧ 0 ≤ p5.toInt ∧ p2.toInt + p5.toInt ≤ n
    · rw [if_pos c1, if_neg (show ¬ (0 : Int32) < 0 by decide), ag_some hj mj.1 mj.2.1, Option.bind_some]
      by_cases c2 : 0 ≤ p4.toInt ∧ 0 ≤ p5.toInt ∧ p4.toInt + p5.toInt ≤ m
      · rw [if_pos c2, if_pos (show (0 : Int32) ≤ 0 by decide), if_pos ⟨c1, c2⟩]
        obtain ⟨sp, rfl, s1, s2⟩ := i32_of c1.1
        obtain ⟨dp, rfl, d1, d2⟩ := i32_of c2.1
        obtain ⟨q, rfl, q1, q2⟩ := i32_of c1.2.1
        have hn := mi.1
        have hm := mj.1
        obtain ⟨r, l1, r2, l2, l3, l4⟩ := copy_loops hi hj (sp := sp) (dp := dp) (n := q) (by omega) (by omega) IT HE
        rw [l1, Option.bind_some, l2, Option.bind_some, tnc s1, tnc d1, tnc q1]
        refine Or.inr (Or.inr ⟨hl, _, r2, r, rfl, rfl, fun z hz8 => ?_⟩)
        by_cases ez : z = j
        · subst ez
          rw [nr_same]
          refine ⟨fun h => (by cases h), fun x hx2 => ?_⟩
          cases hx2
          refine ⟨mj.1, mj.2.1, mj.2.2.1, fun y hy => ?_⟩
          dsimp only at hy
          show r2 (40 * z + y) = va_cpy I U sp dp q y
          unfold va_cpy
          by_cases cy : dp ≤ y ∧ y < dp + q
          · rw [if_pos cy]
            have e := l3 (y - dp) (by omega)
            rw [show 40 * z + dp + (y - dp) = 40 * z + y by omega] at e
            rw [e, show 40 * i + sp + (y - dp) = 40 * i + (sp + (y - dp)) by omega]
            exact mi.2.2.2 _ (by omega)
          · rw [if_neg cy, l4 _ (by omega)]
            exact mj.2.2.2 y hy
        · rw [nr_ne ez]
          refine ⟨(hR z hz8).1, fun x hx2 => ?_⟩
          obtain ⟨b1, b2, b3, b4⟩ := (hR z hz8).2 x hx2
          refine ⟨b1, b2, b3, fun y hy => ?_⟩
          rw [l4 _ (by omega)]
          exact b4 y hy
      · rw [if_neg c2, if_neg (show ¬ (2 : Int32) ≤ 0 by decide), if_neg (fun h => c2 h.2)]
        exact Or.inr (Or.inl ⟨hl, rfl, rfl⟩)
    · rw [if_neg c1, if_pos (show (0 : Int32) < 2 by decide), if_neg (fun h => c1 h.1)]
      exact Or.inr (Or.inl ⟨hl, rfl, rfl⟩)
  · rw [if_neg hl]
    exact Or.inl ⟨hl, rfl⟩
theorem eqa_rfl (a : Nat) : eqa a a = some () := by unfold eqa; rw [if_pos rfl]
theorem act_copy_1 (hR : RR rs MA LA IT) (HE : Nat → Int32) (gs p2 p4 p5 : Int32) {i ra n : Nat} {l : Int32} {I : Nat → Int32} (hi : i < 8) (hx : rs i = some (n, l, I)) (hw : RW i = some ra) :
    ∃ ans I' st IT' HE', fX0_copy_1 ra n gs RW l I (Int32.ofNat i) p2 (Int32.ofNat i) p4 p5 = some (ans, I', st) ∧ fX9_copy MA LA IT HE gs (Int32.ofNat i) p2 (Int32.ofNat i) p4 p5 = some (ans, st, IT', HE') ∧ RR (nr rs i (some (n, l, I'))) MA LA IT' := by
  have same : nr rs i (some (n, l, I)) = rs := by
    funext z
    by_cases e : z = i
    · subst e; rw [nr_same, hx]
    · rw [nr_ne e]
  have hrow : fX0_isRow (Int32.ofNat i) = some 1 := by rw [isRow_s, if_pos (show 0 ≤ (Int32.ofNat i).toInt ∧ (Int32.ofNat i).toInt ≤ 7 by rw [Int32.toInt_ofNat_of_lt (by omega)]; omega)]
  have hs : fX0_copy_1 ra n gs RW l I (Int32.ofNat i) p2 (Int32.ofNat i) p4 p5 = (match acp I n p2 I n p4 p5 with
      | none => (fX0_found 2).bind fun q24 => some (q24.1, I, q24.2)
      | some w21 => (fX0_well p5).bind fun q25 => some (q25.1, w21, q25.2)) := by
    unfold fX0_copy_1
    rw [hrow, Option.bind_some, if_neg (show ¬ (1 : Int32) = 0 by decide), Option.bind_some, if_neg (show ¬ (1 : Int32) = 0 by decide), rowAt_some hi hw, Option.bind_some]
    dsimp only
    rw [eqa_rfl, Option.bind_some, Option.bind_some]
    dsimp only
    rw [eqa_rfl, Option.bind_some, if_pos rfl, Option.bind_some, show fX0_must 1 5 = some (.inl ()) from rfl, Option.bind_some]
    try rfl
  rw [hs]
  rcases copy_m hR HE gs p2 p4 p5 hi hi hx hx with ⟨h1, -⟩ | ⟨-, h2, h3⟩ | ⟨-, V, IT', HE', h2, h3, h4⟩
  · exact absurd rfl h1
  · rw [h2, h3]
    exact ⟨_, I, _, IT, HE, rfl, rfl, by rw [same]; exact hR⟩
  · rw [h2, h3]
    exact ⟨_, V, _, IT', HE', rfl, rfl, h4⟩
theorem act_copy_2 (hR : RR rs MA LA IT) (HE : Nat → Int32) (gs p2 p4 p5 : Int32) {i j ra ua n m : Nat} {l k : Int32} {I U : Nat → Int32} (hi : i < 8) (hj : j < 8) (hx : rs i = some (n, l, I)) (hw : RW i = some ra) (hz : rs j = some (m, k, U)) (hw2 : RW j = some ua) :
    ∃ ans U' st IT' HE', fX0_copy_2 ra ua n m gs RW l k I U (Int32.ofNat i) p2 (Int32.ofNat j) p4 p5 = some (ans, st, U') ∧ fX9_copy MA LA IT HE gs (Int32.ofNat i) p2 (Int32.ofNat j) p4 p5 = some (ans, st, IT', HE') ∧ RR (nr rs j (some (m, k, U'))) MA LA IT' := by
  have same : nr rs j (some (m, k, U)) = rs := by
    funext z
    by_cases e : z = j
    · subst e; rw [nr_same, hz]
    · rw [nr_ne e]
  have hrow : ∀ i : Nat, i < 8 → fX0_isRow (Int32.ofNat i) = some 1 := fun i hi => by rw [isRow_s, if_pos (show 0 ≤ (Int32.ofNat i).toInt ∧ (Int32.ofNat i).toInt ≤ 7 by rw [Int32.toInt_ofNat_of_lt (by omega)]; omega)]
  have hs : fX0_copy_2 ra ua n m gs RW l k I U (Int32.ofNat i) p2 (Int32.ofNat j) p4 p5 = (if l = k then (match acp I n p2 U m p4 p5 with
      | none => (fX0_found 2).bind fun q24 => some (q24.1, q24.2, U)
      | some w21 => (fX0_well p5).bind fun q25 => some (q25.1, q25.2, w21)) else (fX0_found 5).bind fun q20 => some (q20.1, q20.2, U)) := by
    unfold fX0_copy_2
    rw [hrow i hi, Option.bind_some, if_neg (show ¬ (1 : Int32) = 0 by decide), hrow j hj, Option.bind_some, if_neg (show ¬ (1 : Int32) = 0 by decide), rowAt_some hi hw, Option.bind_some]
    dsimp only
    rw [eqa_rfl, Option.bind_some, rowAt_some hj hw2, Option.bind_some]
    dsimp only
    rw [eqa_rfl, Option.bind_some]
    by_cases hl : l = k
    · rw [if_pos hl, if_pos hl, Option.bind_some, show fX0_must 1 5 = some (.inl ()) from rfl, Option.bind_some]
      rfl
    · rw [if_neg hl, if_neg hl, Option.bind_some, show fX0_must 0 5 = some (.inr 5) from rfl, Option.bind_some]
  rw [hs]
  rcases copy_m hR HE gs p2 p4 p5 hi hj hx hz with ⟨h1, h3⟩ | ⟨h1, h2, h3⟩ | ⟨h1, V, IT', HE', h2, h3, h4⟩
  · rw [if_neg h1, h3]
    exact ⟨_, U, _, IT, HE, rfl, rfl, by rw [same]; exact hR⟩
  · rw [if_pos h1, h2, h3]
    exact ⟨_, U, _, IT, HE, rfl, rfl, by rw [same]; exact hR⟩
  · rw [if_pos h1, h2, h3]
    exact ⟨_, V, _, IT', HE', rfl, rfl, h4⟩
end CO
