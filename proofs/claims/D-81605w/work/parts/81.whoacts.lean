/-! THE PLAIN LAW 17: who, joined -/
set_option maxRecDepth 100000
theorem row_ok {I : Nat → Int32} {n C m : Nat} (hn : n ≤ 40) (h : C + m ≤ n) (hm1 : 1 ≤ m) : ∃ W, fX11_row n I (Int32.ofNat C) (Int32.ofNat m) = some (.inl W) ∧ ∀ k, k < m → W k = I (C + k) := by
  have hC : (Int32.ofNat C).toInt = C := Int32.toInt_ofNat_of_lt (by omega)
  have hm : (Int32.ofNat m).toInt = m := Int32.toInt_ofNat_of_lt (by omega)
  unfold fX11_row
  rw [if_neg (nneg (k := C) (by omega)), if_neg (fun h => by have := Eq.mp (lt_sum _ _ hn) h; rw [hC, hm] at this; omega), Option.bind_some, show fX0_must 1 2 = some (.inl ()) from rfl, Option.bind_some]
  dsimp only
  have hgn : gn (Int32.ofNat m) = some () := by
    unfold gn
    rw [tnc (by omega), if_neg (fun h => h.elim (fun h => nneg (k := m) (by omega) h) (fun h => by omega))]
  have hac : acp I n (Int32.ofNat C) (fun _ => 0) (Int32.ofNat m).toNatClampNeg 0 (Int32.ofNat m) = some (va_cpy I (fun _ => 0) C 0 m) := by
    unfold acp
    rw [tnc (by omega), tnc (by omega), show (0 : Int32).toNatClampNeg = 0 from rfl, if_pos ⟨nneg (k := C) (by omega), by decide, nneg (k := m) (by omega), by omega, by omega⟩]
  rw [hgn, Option.bind_some, hac, Option.bind_some]
  refine ⟨_, rfl, fun k hk => ?_⟩
  unfold va_cpy
  rw [if_pos (by omega), Nat.sub_zero]
theorem row_bad {I : Nat → Int32} {n : Nat} (hn : n ≤ 40) {p4 p5 : Int32} (h : ¬ (0 ≤ p4.toInt ∧ p4.toInt + p5.toInt ≤ n)) : fX11_row n I p4 p5 = some (.inr 2) := by
  unfold fX11_row
  by_cases c : p4 < 0
  · rw [if_pos c]; rfl
  · rw [if_neg c]
    rw [lt0_i] at c
    rw [if_pos (Eq.mpr (lt_sum p4 p5 hn) (by omega))]; rfl
section WA
variable {ln : Nat → Option Int32} {lf : Nat → Nat → Option Nat} {dk : Nat → Option Nat} {hv tv v : HV} {w : Nat → Int32} {A B : AH} {rs : Nat → Option Rw} {MA LA IT : Nat → Int32} {RW : Nat → Option Nat}
theorem act_who_0 (hT : TV ln lf dk hv w) (hR : RR rs MA LA IT) (gs p1 p2 p3 p4 p5 : Int32) (h : (0 ≤ p3.toInt ∧ p3.toInt ≤ 7) → rs p3.toNatClampNeg = none ∧ RW p3.toNatClampNeg = none) : ∃ ans st, fX0_who_0 ln hv gs RW p1 p2 p3 p5 = some (ans, st) ∧ fX9_who w MA IT gs p1 p2 p3 p4 p5 = some (ans, st, w) := by
  unfold fX0_who_0 fX9_who
  obtain ⟨c0, hcd, h1, h2⟩ : ∃ c0 : Prop, ∃ _ : Decidable c0, fX0_isDish ln hv p1 = some (if c0 then 1 else 0) ∧ fX9_isDish w p1 = some (if c0 then 1 else 0) := by
    rcases hT with hE | ⟨A, hL⟩
    · exact ⟨_, _, isDish_s hE.1 (by omega) p1, isDish_m hE.2.2.2.1 (by omega) p1⟩
    · obtain ⟨hS, hm, ok, hN1, hM, hn⟩ := hL
      have hN6 := ok.1
      exact ⟨_, _, isDish_s hS.1 (by omega) p1, isDish_m (w := w) (by rw [← hm.1]) (show zN A < 10 by omega) p1⟩
  rw [h1, h2, Option.bind_some, Option.bind_some, g01, g01]
  by_cases c1 : c0
  · rw [if_pos c1, if_pos c1, in_same, show fX0_isIn p2.toInt64 0 5 = _ from inl_eq p2 0 5 (by omega) (by omega), Option.bind_some, Option.bind_some, g01, g01]
    by_cases c2 : ((0 : Nat) : Int) ≤ p2.toInt ∧ p2.toInt ≤ ((5 : Nat) : Int)
    · rw [if_pos c2, if_pos c2, isRow_s, isRow_m, Option.bind_some, Option.bind_some, g01, g01]
      by_cases c3 : 0 ≤ p3.toInt ∧ p3.toInt ≤ 7
      · rw [if_pos c3, if_pos c3, isTold_s, in_same, show fX0_isIn p5.toInt64 1 12 = _ from inl_eq p5 1 12 (by omega) (by omega), Option.bind_some, Option.bind_some, g01, g01]
        by_cases c4 : 1 ≤ p5.toInt ∧ p5.toInt ≤ 12
        · obtain ⟨g1, g2⟩ := h c3
          obtain ⟨i, rfl, hi, hi2⟩ := i32_of c3.1
          rw [tnc hi] at g1 g2
          have i8 : i < 8 := by omega
          rw [if_pos c4, if_pos (show ((1 : Nat) : Int) ≤ p5.toInt ∧ p5.toInt ≤ ((12 : Nat) : Int) from c4), rowAt_none i8 g2, ag_none i8 ((hR i i8).1 g1), Option.bind_some, Option.bind_some, if_neg (by decide)]
          exact ⟨_, _, rfl, rfl⟩
        · rw [if_neg c4, if_neg (show ¬ (((1 : Nat) : Int) ≤ p5.toInt ∧ p5.toInt ≤ ((12 : Nat) : Int)) from c4)]; exact ⟨_, _, rfl, rfl⟩
      · rw [if_neg c3, if_neg c3]; exact ⟨_, _, rfl, rfl⟩
    · rw [if_neg c2, if_neg c2]; exact ⟨_, _, rfl, rfl⟩
  · rw [if_neg c1, if_neg c1]; exact ⟨_, _, rfl, rfl⟩
theorem who_num (hL : LV ln lf dk hv w A) (tv : HV) {TK : Nat → Option Nat} (hTK : ∀ k, k < 5 → ∃ e, TK k = some e ∧ dk e = some k) {d n i C e : Nat} (hd : d < zN A) (hn : n ≤ 12) (RC : Nat → Int32) (hi : i < 8) (hC : C + n ≤ 40) (hIT : ∀ k, k < n → IT (40 * i + C + k) = RC k) (he1 : 2 ≤ e) (he2 : e ≤ 5) :
    ∃ ans tv' w', fX0_numberOf ln lf dk n hv tv TK RC (Int32.ofNat d) (Int32.ofNat e) = some (ans, tv') ∧
      ((if 4 ≤ Int32.ofNat e then some 40 else some 60 : Option Int32).bind fun j6 => (if 4 ≤ Int32.ofNat e then some 1 else some 0 : Option Int32).bind fun j7 => (lp (fX9_who_b217 IT (Int32.ofNat d) (Int32.ofNat e) (Int32.ofNat i) (Int32.ofNat C) (Int32.ofNat n) j6) FU (0, (-1000000), j7, w)).bind fun r8 => if (Int32.ofNat e - Int32.ofNat e / 2 * 2) = 0 then some (r8.1, (0 : Int32), r8.2.2) else some (r8.2.1, 0, r8.2.2)) = some (ans, 0, w') ∧ FR w w' 43 := by
  have hev := ev2 ⟨e, by omega⟩
  dsimp only at hev
  have g4 : (4 ≤ Int32.ofNat e) = (4 ≤ e) := q_le (a := 4) (by omega) (by omega)
  have main : ∀ (c lo N : Nat) (j1 : Int32), 1 ≤ N → N ≤ 61 → lo ≤ 1 → (∀ k, k < N → alP A c (lo + k)) → (if j1 = 0 then some 1 else some 0 : Option Int32) = some (Int32.ofNat lo) → (if j1 = 0 then some 4 else some 2 : Option Int32) = some (Int32.ofNat c) → (if 4 ≤ Int32.ofNat e then some 0 else some 1 : Option Int32) = some j1 → (if j1 = 0 then some 40 else some 60 : Option Int32) = some (Int32.ofNat (lo + N) - 1) → (if 4 ≤ Int32.ofNat e then some 3 else some (31 + Int32.ofNat d) : Option Int32) = some (Int32.ofNat (alJ d c)) → (if 4 ≤ Int32.ofNat e then some 40 else some 60 : Option Int32) = some (Int32.ofNat (lo + N - 1)) → (if 4 ≤ Int32.ofNat e then some 1 else some 0 : Option Int32) = some (Int32.ofNat lo) → ∃ ans tv' w', fX0_numberOf ln lf dk n hv tv TK RC (Int32.ofNat d) (Int32.ofNat e) = some (ans, tv') ∧
      ((if 4 ≤ Int32.ofNat e then some 40 else some 60 : Option Int32).bind fun j6 => (if 4 ≤ Int32.ofNat e then some 1 else some 0 : Option Int32).bind fun j7 => (lp (fX9_who_b217 IT (Int32.ofNat d) (Int32.ofNat e) (Int32.ofNat i) (Int32.ofNat C) (Int32.ofNat n) j6) FU (0, (-1000000), j7, w)).bind fun r8 => if (Int32.ofNat e - Int32.ofNat e / 2 * 2) = 0 then some (r8.1, (0 : Int32), r8.2.2) else some (r8.2.1, 0, r8.2.2)) = some (ans, 0, w') ∧ FR w w' 43 := by
    intro c lo N j1 hN1 hN hlo hP k1 k2 k3 k4 k5 k6 k7
    obtain ⟨L, v', l1, l2⟩ := num_s hL tv hTK hd hn RC j1 hN1 hN hlo hP k1 k2
    obtain ⟨M, w', m1, m2, m3⟩ := num_m hL hd hn RC IT hi hC hIT (Int32.ofNat e) hN1 hN hlo hP k5
    have hLM := least_one l2 m2
    subst hLM
    unfold fX0_numberOf
    rw [k3, k6, k7, Option.bind_some, Option.bind_some, Option.bind_some, k4, Option.bind_some, l1, m1, Option.bind_some, Option.bind_some]
    dsimp only
    by_cases c5 : e % 2 = 0
    · rw [if_pos (Eq.mpr hev c5), if_pos (Eq.mpr hev c5)]; exact ⟨_, _, _, rfl, rfl, m3⟩
    · rw [if_neg (fun h => c5 (Eq.mp hev h)), if_neg (fun h => c5 (Eq.mp hev h))]; exact ⟨_, _, _, rfl, rfl, m3⟩
  by_cases c4 : 4 ≤ e
  · have c4' := Eq.mpr g4 c4
    exact main 4 1 40 0 (by omega) (by omega) (by omega) (fun k hk => Or.inr (Or.inr (Or.inr ⟨rfl, by omega⟩))) rfl rfl (if_pos c4') rfl (by rw [if_pos c4']; rfl) (by rw [if_pos c4']; rfl) (by rw [if_pos c4']; rfl)
  · have c4' : ¬ 4 ≤ Int32.ofNat e := fun h => c4 (Eq.mp g4 h)
    exact main 2 0 61 1 (by omega) (by omega) (by omega) (fun k hk => Or.inr (Or.inr (Or.inl ⟨rfl, by omega⟩))) rfl rfl (if_neg c4') rfl (by rw [if_neg c4', show (31 : Int32) = Int32.ofNat 31 from rfl, oadd]; rfl) (by rw [if_neg c4']; rfl) (by rw [if_neg c4']; rfl)
theorem act_who_1 (hT : TV ln lf dk hv w) (hR : RR rs MA LA IT) {TK : Nat → Option Nat} (hTK : ∀ k, k < 5 → ∃ e, TK k = some e ∧ dk e = some k) (tv : HV) (gs p1 p2 p4 p5 : Int32) {i ra n : Nat} {l : Int32} {I : Nat → Int32} (hi : i < 8) (hx : rs i = some (n, l, I)) (hw : RW i = some ra) : ∃ ans st tv' w', fX0_who_1 ln lf dk ra n hv tv gs RW TK I p1 p2 (Int32.ofNat i) p4 p5 = some (ans, st, tv') ∧ fX9_who w MA IT gs p1 p2 (Int32.ofNat i) p4 p5 = some (ans, st, w') ∧ FR w w' 43 := by
  obtain ⟨b1, b2, b3, b4⟩ := (hR i hi).2 _ hx
  dsimp only at b1 b2 b3 b4
  rcases hT with hE | ⟨A, hL⟩
  · refine ⟨-1000001, gs, tv, w, ?_, ?_, fun i _ => rfl⟩
    · unfold fX0_who_1
      rw [isDish_s hE.1 (by omega), Option.bind_some, g01, if_neg (by omega)]
    · unfold fX9_who
      rw [isDish_m hE.2.2.2.1 (by omega), Option.bind_some, g01, if_neg (by omega)]
  · have hL0 := hL
    obtain ⟨hS, hm, ok, hN1, hM, hn⟩ := hL
    have hN6 := ok.1
    have hF9 := ok.2.1
    have hF1 : 1 ≤ zF A := by have := ok.2.2.1; omega
    unfold fX0_who_1 fX9_who
    rw [isDish_s hS.1 (by omega) p1, isDish_m (w := w) (N := zN A) (by rw [← hm.1]) (show zN A < 10 by omega) p1, Option.bind_some, Option.bind_some, g01, g01]
    by_cases c1 : 0 ≤ p1.toInt ∧ p1.toInt < zN A
    · rw [if_pos c1, if_pos c1, in_same, show fX0_isIn p2.toInt64 0 5 = _ from inl_eq p2 0 5 (by omega) (by omega), Option.bind_some, Option.bind_some, g01, g01]
      by_cases c2 : ((0 : Nat) : Int) ≤ p2.toInt ∧ p2.toInt ≤ ((5 : Nat) : Int)
      · have hc : 0 ≤ (Int32.ofNat i).toInt ∧ (Int32.ofNat i).toInt ≤ 7 := by rw [Int32.toInt_ofNat_of_lt (by omega)]; omega
        rw [if_pos c2, if_pos c2, isRow_s, isRow_m, Option.bind_some, Option.bind_some, g01, g01, if_pos hc, if_pos hc, isTold_s, in_same, show fX0_isIn p5.toInt64 1 12 = _ from inl_eq p5 1 12 (by omega) (by omega), Option.bind_some, Option.bind_some, g01, g01]
        by_cases c4 : 1 ≤ p5.toInt ∧ p5.toInt ≤ 12
        · rw [if_pos c4, if_pos (show ((1 : Nat) : Int) ≤ p5.toInt ∧ p5.toInt ≤ ((12 : Nat) : Int) from c4), rowAt_some hi hw, ag_some hi b1 b2, Option.bind_some, Option.bind_some]
          dsimp only
          rw [show eqa ra ra = some () from if_pos rfl, Option.bind_some]
          by_cases c5 : 0 ≤ p4.toInt ∧ p4.toInt + p5.toInt ≤ n
          · obtain ⟨d, rfl, hd1, hd2⟩ := i32_of c1.1
            obtain ⟨e, rfl, he1, he2⟩ := i32_of (show 0 ≤ p2.toInt by omega)
            obtain ⟨C, rfl, hC1, hC2⟩ := i32_of c5.1
            obtain ⟨m, rfl, hm1, hm2⟩ := i32_of (show 0 ≤ p5.toInt by omega)
            have hd : d < zN A := by omega
            obtain ⟨W, q1, q2⟩ := row_ok (I := I) (n := n) (C := C) (m := m) b1 (by omega) (by omega)
            rw [if_pos (show 0 ≤ (Int32.ofNat C).toInt ∧ 0 ≤ (Int32.ofNat m).toInt ∧ (Int32.ofNat C).toInt + (Int32.ofNat m).toInt ≤ n by omega), if_pos (by decide), q1, Option.bind_some]
            dsimp only
            have hIT : ∀ k, k < m → IT (40 * i + C + k) = W k := fun k hk => by rw [q2 k hk, Nat.add_assoc]; exact b4 (C + k) (by omega)
            have g2 : (2 ≤ Int32.ofNat e) = (2 ≤ e) := q_le (a := 2) (by omega) (by omega)
            rw [tnc hm1]
            by_cases c6 : 2 ≤ e
            · obtain ⟨ans, tv', w', f1, f2, f3⟩ := who_num (IT := IT) hL0 tv hTK (n := m) (i := i) (C := C) (e := e) hd (by omega) W hi (by omega) hIT c6 (by omega)
              rw [if_pos (Eq.mpr g2 c6), if_pos (Eq.mpr g2 c6), f1, f2]
              exact ⟨_, _, _, _, rfl, rfl, f3⟩
            · have c6' : ¬ 2 ≤ Int32.ofNat e := fun h => c6 (Eq.mp g2 h)
              have e1 : rd w 1247 1 = some (Int32.ofNat (zF A)) := (r0n (c := 1) (by omega)).trans (by rw [show w 1 = _ from hm.2.1])
              rw [if_neg c6', if_neg c6']
              rcases (show e = 0 ∨ e = 1 by omega) with rfl | rfl
              · obtain ⟨v', s1⟩ := set_s hL0 tv hTK (c := 0) (lo := 1) (N := 5) (n := m) hd (by omega) W (by omega) (by omega) (by omega) rfl (by omega) (fun k hk => Or.inl ⟨rfl, by omega, by omega⟩) (if_pos rfl)
                obtain ⟨w', t1, t2⟩ := set_m hL0 (c := 0) (lo := 1) (N := 5) (n := m) (R := i) (C := C) hd (by omega) W IT hi (by omega) hIT (by omega) (by omega) (by omega) (by omega) (fun k hk => Or.inl ⟨rfl, by omega, by omega⟩)
                rw [s1, if_pos (show Int32.ofNat 0 = 0 from rfl), if_pos (show Int32.ofNat 0 = 0 from rfl), Option.bind_some, Option.bind_some, Option.bind_some, Option.bind_some, show lp (fX9_who_b117 IT (Int32.ofNat d) (Int32.ofNat 0) (Int32.ofNat i) (Int32.ofNat C) (Int32.ofNat m) 5) FU (0, 1, w) = _ from t1]
                exact ⟨_, _, _, _, rfl, rfl, t2⟩
              · have hmF : Int32.ofNat (zF A) - 1 = Int32.ofNat (0 + zF A - 1) := by
                  have := (dn1 ⟨zF A, by omega⟩).2.1 hF1
                  rw [Nat.zero_add]; exact this
                obtain ⟨v', s1⟩ := set_s hL0 tv hTK (c := 1) (lo := 0) (N := zF A) (n := m) hd (by omega) W (by omega) (by omega) (by omega) rfl (by omega) (fun k hk => Or.inr (Or.inl ⟨rfl, by omega⟩)) (by rw [if_neg (show ¬ Int32.ofNat 1 = 0 by decide), hS.2.1, hmF])
                obtain ⟨w', t1, t2⟩ := set_m hL0 (c := 1) (lo := 0) (N := zF A) (n := m) (R := i) (C := C) hd (by omega) W IT hi (by omega) hIT (by omega) (by omega) (by omega) (by omega) (fun k hk => Or.inr (Or.inl ⟨rfl, by omega⟩))
                rw [s1, if_neg (show ¬ Int32.ofNat 1 = 0 by decide), if_neg (show ¬ Int32.ofNat 1 = 0 by decide), e1, Option.bind_some, Option.bind_some, Option.bind_some, hmF, Option.bind_some, Option.bind_some, show lp (fX9_who_b117 IT (Int32.ofNat d) (Int32.ofNat 1) (Int32.ofNat i) (Int32.ofNat C) (Int32.ofNat m) (Int32.ofNat (0 + zF A - 1))) FU (0, 0, w) = _ from t1]
                exact ⟨_, _, _, _, rfl, rfl, t2⟩
          · rw [if_neg (show ¬ (0 ≤ p4.toInt ∧ 0 ≤ p5.toInt ∧ p4.toInt + p5.toInt ≤ n) by omega), if_neg (by decide), row_bad b1 c5]
            exact ⟨_, _, _, _, rfl, rfl, fun i _ => rfl⟩
        · rw [if_neg c4, if_neg (show ¬ (((1 : Nat) : Int) ≤ p5.toInt ∧ p5.toInt ≤ ((12 : Nat) : Int)) from c4)]; exact ⟨_, _, _, _, rfl, rfl, fun i _ => rfl⟩
      · rw [if_neg c2, if_neg c2]; exact ⟨_, _, _, _, rfl, rfl, fun i _ => rfl⟩
    · rw [if_neg c1, if_neg c1]; exact ⟨_, _, _, _, rfl, rfl, fun i _ => rfl⟩
end WA
