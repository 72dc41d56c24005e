/-! THE PLAIN LAW 3c -/
set_option maxRecDepth 100000
section MOD2
variable {w : Nat → Int32} {r : Nat} {A : AH}
theorem serves_eq (hr : r + 43 ≤ 1247) (ok : OK A) (hm : MR w r A) : ∃ w', fX9_serves w (Int32.ofNat r) = some w' ∧ MR w' r (stA A) ∧ FR w w' r := by
  obtain ⟨w1, h1, p1⟩ := serves1_eq hr ok hm
  obtain ⟨w2, h2, p2⟩ := serves2_eq hr ok hm p1
  obtain ⟨m0, m1, m2, m3, m4, m5, m6, m7⟩ := hm
  have hN := ok.1
  refine ⟨w2, ?_, ⟨?_, ?_, ?_, ?_, ?_, ?_, ?_, fun k hk => ?_⟩, fun i hi => p2.1 i (by omega)⟩
  · unfold fX9_serves
    rw [h1, Option.bind_some, h2]
    rfl
  · rw [p2.1 _ (by omega)]; exact m0
  · rw [p2.1 _ (by omega)]; exact m1
  · rw [p2.1 _ (by omega)]; exact m2
  · rw [p2.1 _ (by omega)]; exact m3
  · rw [p2.1 _ (by omega)]; exact m4
  · rw [p2.1 _ (by omega)]; exact m5
  · rw [p2.1 _ (by omega)]; exact m6
  · have hk : k < zN A := hk
    obtain ⟨n1, n2, n3, n4, n5, n6⟩ := m7 k hk
    refine ⟨?_, p2.2 k hk, ?_, ?_, ?_, ?_⟩
    · rw [p2.1 _ (by omega)]; exact n1
    · rw [p2.1 _ (by omega)]; exact n3
    · rw [p2.1 _ (by omega)]; exact n4
    · rw [p2.1 _ (by omega)]; exact n5
    · rw [p2.1 _ (by omega)]; exact n6
end MOD2
section MOD3
variable {w : Nat → Int32} {r : Nat} {A : AH}
theorem calledOf_eq (hr : r + 43 ≤ 1247) (ok : OK A) (hm : MR w r A) : fX9_calledOf w (Int32.ofNat r) = some (bs 9 (cst A)) := by
  obtain ⟨k1, k2, k3, k4, k6⟩ := ok
  obtain ⟨m0, m1, m2, m3, m4, m5, m6, m7⟩ := hm
  have r0 : rd w 1247 (Int32.ofNat r + 0) = some (w (r + 0)) := rd1 (c := 0) (by omega)
  have r4 : rd w 1247 (Int32.ofNat r + 4) = some (w (r + 4)) := rd1 (c := 4) (by omega)
  have r3 : rd w 1247 (Int32.ofNat r + 3) = some (w (r + 3)) := rd1 (c := 3) (by omega)
  have := lp_cnt (b := fX9_calledOf_b4 w (Int32.ofNat r)) (r := bs 9 (cs0 A)) (n := zN A) (FUlt (by omega)) (fun k => (bs 9 (csk A k), Int32.ofNat k)) (fun k hk => by
    obtain ⟨b1, b2, b3, b4, b5, b6, b7, b8⟩ := k6 k hk
    obtain ⟨n1, n2, n3, n4, n5, n6⟩ := m7 k hk
    have r13 : rd w 1247 (Int32.ofNat r + 13 + Int32.ofNat k) = some (w (r + 13 + k)) := rdk (c := 13) (by omega)
    have r19 : rd w 1247 (Int32.ofNat r + 19 + Int32.ofNat k) = some (w (r + 19 + k)) := rdk (c := 19) (by omega)
    have r25 : rd w 1247 (Int32.ofNat r + 25 + Int32.ofNat k) = some (w (r + 25 + k)) := rdk (c := 25) (by omega)
    have k8 : zT A k < 9 := by omega
    have k9 : zA A k < 9 := by omega
    have p10 := pos10 b2 k9
    have g10 : (10 ≤ Int32.ofNat (pos (zH A k) (zA A k))) = (10 ≤ pos (zH A k) (zA A k)) := q_le (a := 10) (by omega) (by unfold pos; split <;> omega)
    simp only [fX9_calledOf_b4, r0, m0, Option.bind_some, if_neg (nle (a := zN A) (b := k) (by omega) (by omega) hk), r13, n2, p10, r19, n3, r25, n4, r3, m3, g10, o1]
    by_cases c1 : zH A k = 1
    · rw [if_pos c1, bs9_add (q := csk A (k + 1)) k8 (fun f => by simp [csk, an, c1, beqc f])]
    · rw [if_neg c1]
      by_cases c2 : zH A k = 0
      · have e : pos (zH A k) (zA A k) = zA A k := by unfold pos; rw [if_pos c2]
        rw [e, if_neg (by omega)]
        by_cases c3 : zrp A < Int32.ofNat (zX A k)
        · rw [if_pos c3, or0, bs_congr (p := csk A k) (q := csk A (k + 1)) (fun f _ => by simp [csk, an, c2, c3])]
        · rw [if_neg c3, bs9_add (q := csk A (k + 1)) k9 (fun f => by simp [csk, an, c2, c3, beqc f])]
      · have e : 10 ≤ pos (zH A k) (zA A k) := by unfold pos; rw [if_neg c2]; omega
        rw [if_pos e, or0, bs_congr (p := csk A k) (q := csk A (k + 1)) (fun f _ => by simp [csk, an, c1, c2])]) (by
    simp only [fX9_calledOf_b4, r0, m0, Option.bind_some, if_pos (yle (a := zN A) (b := zN A) (by omega) (by omega) (Nat.le_refl _))]
    rfl)
  rw [csk_zero] at this
  have h2 : fX9_calledOf w (Int32.ofNat r) = (some (bs 9 (cs0 A))).bind fun r1 => (rd w 1247 (Int32.ofNat r + 4)).bind fun v2 => some (r1 &&& (((1 : Int32) <<< (v2 &&& 31)) ^^^ (-1))) := congrArg (fun z => Option.bind z fun r1 => (rd w 1247 (Int32.ofNat r + 4)).bind fun v2 => some (r1 &&& (((1 : Int32) <<< (v2 &&& 31)) ^^^ (-1)))) this
  rw [h2, Option.bind_some, r4, m4, Option.bind_some, go9_mask (cs0 A) (by omega)]
  rfl
theorem cst_none (A : AH) : (an 9 (cst A) = false) = (gW A = false) := by
  have h : an 9 (cst A) = gW A := by
    unfold gW gU gD
    cases h1 : an 9 (cst A)
    · symm
      rw [Bool.or_eq_false_iff]
      constructor
      · cases h2 : an 9 (fun f => decide (zC A < f) && cst A f)
        · rfl
        · obtain ⟨k, a1, a2⟩ := an_iff.mp h2
          simp only [Bool.and_eq_true] at a2
          rw [an_iff.mpr ⟨k, a1, a2.2⟩] at h1
          cases h1
      · cases h2 : an 9 (fun f => decide (f < zC A) && cst A f)
        · rfl
        · obtain ⟨k, a1, a2⟩ := an_iff.mp h2
          simp only [Bool.and_eq_true] at a2
          rw [an_iff.mpr ⟨k, a1, a2.2⟩] at h1
          cases h1
    · obtain ⟨k, a1, a2⟩ := an_iff.mp h1
      symm
      rw [Bool.or_eq_true]
      have hne : k ≠ zC A := by
        intro e
        subst e
        simp [cst] at a2
      rcases Nat.lt_or_gt_of_ne hne with h | h
      · exact Or.inr (an_iff.mpr ⟨k, a1, by simp [h, a2]⟩)
      · exact Or.inl (an_iff.mpr ⟨k, a1, by simp [h, a2]⟩)
  rw [h]
theorem goes_core2 {q : Int32} {C Y : Nat} (hC : C < 9) (hY : Y ≤ 1) {U D : Bool} {W : Bool} (hW : W = (U || D)) (hd : D = true → C ≠ 0) (hq : (q = 0) = (W = false)) (hU : ((q >>> (Int32.ofNat C &&& 31)) ≤ 0) = (U = false)) (hD : ((q &&& (((1 : Int32) <<< (Int32.ofNat C &&& 31)) - 1)) ≤ 0) = (D = false)) :
    ((q = 0) = (W = false)) ∧
    ((if (q >>> (Int32.ofNat C &&& 31)) ≤ 0 then some 0 else some 1 : Option Int32) = some (if U then 1 else 0)) ∧
    ((if (q &&& (((1 : Int32) <<< (Int32.ofNat C &&& 31)) - 1)) ≤ 0 then some 0 else some 1 : Option Int32) = some (if D then 1 else 0)) ∧
    ((if Int32.ofNat Y = 1 then (if (if U then (1 : Int32) else 0) = 0 then some 0 else some 1) else (if (if D then (1 : Int32) else 0) = 0 then some 1 else some 0) : Option Int32) = some (Int32.ofNat (if Y = 1 then (if U then 1 else 0) else (if D then 0 else 1)))) := by
  refine ⟨hq, ?_, ?_, ?_⟩
  · simp only [hU]
    cases U <;> rfl
  · simp only [hD]
    cases D <;> rfl
  · rcases (show Y = 0 ∨ Y = 1 by omega) with rfl | rfl <;> cases U <;> cases D <;> decide
theorem mgoes_eq (hr : r + 43 ≤ 1247) (ok : OK A) (hm : MR w r A) : ∃ w', fX9_goes w (Int32.ofNat r) = some (if gW A then 1 else 0, w') ∧ MR w' r (goA A) ∧ FR w w' r := by
  have hc := calledOf_eq hr ok hm
  obtain ⟨k1, k2, k3, k4, k6⟩ := ok
  have hm' := hm
  obtain ⟨m0, m1, m2, m3, m4, m5, m6, m7⟩ := hm
  have hC9 : zC A < 9 := by omega
  have u1 := (go9_up (cst A) hC9).2
  have u2 := (go9_dn (cst A) hC9).2
  rw [up_eq] at u1
  have u0 := go9_none (cst A)
  rw [cst_none] at u0
  obtain ⟨g0, g1, g2, g3⟩ := goes_core2 (W := gW A) hC9 k4 rfl (gD_pos (A := A)) u0 u1 u2
  have r4 : rd w 1247 (Int32.ofNat r + 4) = some (w (r + 4)) := rd1 (c := 4) (by omega)
  have r5 : rd w 1247 (Int32.ofNat r + 5) = some (w (r + 5)) := rd1 (c := 5) (by omega)
  unfold fX9_goes
  rw [hc, Option.bind_some]
  cases hW : gW A
  · rw [hW] at g0
    rw [if_pos (g0.mpr rfl)]
    refine ⟨w, rfl, ?_, fun i _ => rfl⟩
    have : goA A = A := by unfold goA; rw [hW]; rfl
    rw [this]
    exact hm'
  · rw [hW] at g0
    rw [if_neg (fun h => Bool.noConfusion (Eq.mp g0 h))]
    have w5 : ∀ v, wr w 1247 (Int32.ofNat r + 5) v = some (upd w (r + 5) v) := fun v => wr1 (c := 5) (by omega)
    have r4' : ∀ v, rd (upd w (r + 5) v) 1247 (Int32.ofNat r + 4) = some (w (r + 4)) := fun v => (rd1 (c := 4) (by omega)).trans (by rw [upd_ne (by omega)])
    have r5' : ∀ v, rd (upd w (r + 5) v) 1247 (Int32.ofNat r + 5) = some v := fun v => (rd1 (c := 5) (by omega)).trans (by rw [upd_same])
    have w4 : ∀ (f : Nat → Int32) v, wr f 1247 (Int32.ofNat r + 4) v = some (upd f (r + 4) v) := fun f v => wr1 (c := 4) (by omega)
    simp only [r4, m4, Option.bind_some, g1, g2, r5, m5, g3, w5, r4', r5', w4]
    have hC' := goA_C A
    have hY' := goA_Y A
    have hWo : (gU A || gD A) = true := hW
    rw [if_pos hWo] at hC' hY'
    have hgy : gY A = 0 ∨ gY A = 1 := by
      unfold gY
      repeat' split
      all_goals omega
    have hyv : (if zY A = 1 then (if gU A then 1 else 0) else (if gD A then 0 else 1)) = gY A := rfl
    rw [hyv]
    have key : (if Int32.ofNat (gY A) = 1 then some 1 else some (-1) : Option Int32) = some (if gY A = 1 then 1 else -1) := by
      rcases hgy with h | h <;> rw [h] <;> decide
    rw [key, Option.bind_some]
    have hcv : Int32.ofNat (zC A) + (if gY A = 1 then (1 : Int32) else -1) = Int32.ofNat (zC (goA A)) := by
      rw [hC']
      by_cases h : gY A = 1
      · rw [if_pos h, if_pos h, o1]
      · rw [if_neg h, if_neg h]
        refine c_dm hC9 ?_
        refine gD_pos ?_
        cases hD : gD A
        · exfalso
          rw [hD, Bool.or_false] at hWo
          apply h
          unfold gY
          rw [hD, hWo]
          split <;> rfl
        · rfl
    rw [hcv]
    refine ⟨_, rfl, ⟨?_, ?_, ?_, ?_, ?_, ?_, ?_, fun k hk => ?_⟩, fun i hi => by rw [upd_ne (by omega), upd_ne (by omega)]⟩
    · rw [upd_ne (by omega), upd_ne (by omega), goA_N]; exact m0
    · rw [upd_ne (by omega), upd_ne (by omega), goA_F]; exact m1
    · rw [upd_ne (by omega), upd_ne (by omega), goA_ro]; exact m2
    · rw [upd_ne (by omega), upd_ne (by omega), goA_rp]; exact m3
    · rw [upd_same]
    · rw [upd_ne (by omega), upd_same, hY']
    · rw [upd_ne (by omega), upd_ne (by omega), goA_M]; exact m6
    · rw [goA_N] at hk
      rw [goA_K, goA_H, goA_A, goA_T, goA_X, goA_G, goA_Q]
      have hu : ∀ i, r + 7 ≤ i → upd (upd w (r + 5) (Int32.ofNat (gY A))) (r + 4) (Int32.ofNat (zC (goA A))) i = w i := fun i hi => by rw [upd_ne (by omega), upd_ne (by omega)]
      rw [hu _ (by omega), hu _ (by omega), hu _ (by omega), hu _ (by omega), hu _ (by omega), hu _ (by omega)]
      exact m7 k hk
/-! cooling -/
def ch (v1 v2 m : Int32) : Option Int32 :=
  (if v1 = 1 then some 1 else if v1 = 2 then some 1 else if v1 = 3 then (if (m - m / 2 * 2) = 1 then some 1 else some 0) else some 0 : Option Int32).bind fun j3 =>
  (if v1 < 4 then (if j3 = 0 then some v2 else some (v2 - 1)) else some (v2 + 1) : Option Int32).bind fun j4 =>
  (if 0 ≤ j4 then (if j4 ≤ 60 then some j4 else some 60) else some 0 : Option Int32)
def chm (v1 v2 m : Int32) : Option Int32 :=
  (if v1 = 1 then some 1 else if v1 = 2 then some 1 else if v1 = 3 then (if m = 1 then some 1 else some 0) else some 0 : Option Int32).bind fun j3 =>
  (if v1 < 4 then (if j3 = 0 then some v2 else some (v2 - 1)) else some (v2 + 1) : Option Int32).bind fun j4 =>
  (if 0 ≤ j4 then (if j4 ≤ 60 then some j4 else some 60) else some 0 : Option Int32)
theorem chm_eq : ∀ K : Fin 5, ∀ g : Fin 61, ∀ m : Fin 2, chm (Int32.ofNat (K.val + 1)) (Int32.ofNat g.val) (Int32.ofNat m.val) = some (Int32.ofNat (hB K.val m.val g.val)) := by decide +kernel
theorem hB_mod (K M g : Nat) : hB K (M % 2) g = hB K M g := by
  unfold hB
  rw [Nat.mod_mod]
theorem ch_eq {K g M : Nat} (hK : K < 5) (hg : g ≤ 60) (hM : M < 1000000) : ch (Int32.ofNat (K + 1)) (Int32.ofNat g) (Int32.ofNat M) = some (Int32.ofNat (hB K M g)) := by
  unfold ch
  rw [i_odd (by omega)]
  have := chm_eq ⟨K, hK⟩ ⟨g, by omega⟩ ⟨M % 2, by omega⟩
  rw [show (⟨M % 2, by omega⟩ : Fin 2).val = M % 2 from rfl, hB_mod] at this
  exact this
def cw (v1 v12 p3 j5 v8 : Int32) : Option Int32 :=
  (if v1 = 2 then (if v12 = 10 then (if p3 = 0 then some 0 else some 1) else some 0) else if v1 = 5 then (if j5 < 10 then some 0 else some 1) else some 0 : Option Int32).bind fun j7 =>
  (if j7 = 0 then some 0 else if v8 ≤ 1 then some 0 else some 1 : Option Int32).bind fun j9 => some (v8 - j9)
def cwm (v1 v12 p3 : Int32) (j5 v8 : Int32) : Option Int32 := cw v1 v12 p3 j5 v8
theorem cw_eq1 : ∀ K : Fin 5, ∀ x : Fin 10, ∀ g : Fin 61, ∀ b c : Bool, 1 ≤ x.val → cw (Int32.ofNat (K.val + 1)) (if b then 10 else 0) (if c then 1 else 0) (Int32.ofNat g.val) (Int32.ofNat x.val) = some (Int32.ofNat (wB K.val x.val g.val (c && b))) := by decide +kernel
theorem cw_eq {K x g : Nat} {v12 : Int32} {b c : Bool} (hK : K < 5) (hx : 1 ≤ x) (hx9 : x ≤ 9) (hg : g ≤ 60) (hb : (v12 = 10) = (b = true)) : cw (Int32.ofNat (K + 1)) v12 (if c then 1 else 0) (Int32.ofNat g) (Int32.ofNat x) = some (Int32.ofNat (wB K x g (c && b))) := by
  have h := cw_eq1 ⟨K, hK⟩ ⟨x, by omega⟩ ⟨g, by omega⟩ b c hx
  dsimp only at h
  rw [← h]
  have hb2 : ((if b = true then (10 : Int32) else 0) = 10) = (b = true) := by cases b <;> simp
  unfold cw
  simp only [hb, hb2]
theorem coolsOne_eq {k : Nat} {c : Bool} (hr : r + 43 ≤ 1247) (hk : k < 6) {K x g h a M : Nat} (hK : K < 5) (hx : 1 ≤ x) (hx9 : x ≤ 9) (hg : g ≤ 60) (hM : M < 1000000) (hh : h ≤ 2) (ha : a < 9) (v7 : w (r + 7 + k) = Int32.ofNat (K + 1)) (v31 : w (r + 31 + k) = Int32.ofNat g) (v6 : w (r + 6) = Int32.ofNat M) (v13 : w (r + 13 + k) = Int32.ofNat (pos h a)) (v25 : w (r + 25 + k) = Int32.ofNat x) :
    fX9_coolsOne w (Int32.ofNat r) (Int32.ofNat k) (if c then 1 else 0) = some (upd (upd w (r + 31 + k) (Int32.ofNat (hB K M g))) (r + 25 + k) (Int32.ofNat (wB K x (hB K M g) (c && h == 1)))) := by
  have r7 : rd w 1247 (Int32.ofNat r + 7 + Int32.ofNat k) = some (w (r + 7 + k)) := rdk (c := 7) (by omega)
  have r31 : rd w 1247 (Int32.ofNat r + 31 + Int32.ofNat k) = some (w (r + 31 + k)) := rdk (c := 31) (by omega)
  have r6 : rd w 1247 (Int32.ofNat r + 6) = some (w (r + 6)) := rd1 (c := 6) (by omega)
  have w31 : ∀ v, wr w 1247 (Int32.ofNat r + 31 + Int32.ofNat k) v = some (upd w (r + 31 + k) v) := fun v => wrk (c := 31) (by omega)
  have r13 : ∀ v, rd (upd w (r + 31 + k) v) 1247 (Int32.ofNat r + 13 + Int32.ofNat k) = some (w (r + 13 + k)) := fun v => (rdk (c := 13) (by omega)).trans (by rw [upd_ne (by omega)])
  have r25 : ∀ v, rd (upd w (r + 31 + k) v) 1247 (Int32.ofNat r + 25 + Int32.ofNat k) = some (w (r + 25 + k)) := fun v => (rdk (c := 25) (by omega)).trans (by rw [upd_ne (by omega)])
  have w25 : ∀ (f : Nat → Int32) v, wr f 1247 (Int32.ofNat r + 25 + Int32.ofNat k) v = some (upd f (r + 25 + k) v) := fun f v => wrk (c := 25) (by omega)
  have hc := ch_eq (K := K) (g := g) (M := M) hK hg hM
  have hcw := cw_eq (K := K) (x := x) (g := hB K M g) (b := h == 1) (c := c) (v12 := Int32.ofNat (pos h a)) hK hx hx9 (hB_le hg) (by rw [pos10 hh ha]; simp)
  unfold ch at hc
  unfold cw at hcw
  unfold fX9_coolsOne
  simp only [r7, v7, r31, v31, r6, v6, Option.bind_some]
  cases h3 : (if Int32.ofNat (K + 1) = 1 then some 1 else if Int32.ofNat (K + 1) = 2 then some 1 else if Int32.ofNat (K + 1) = 3 then (if (Int32.ofNat M - Int32.ofNat M / 2 * 2) = 1 then some 1 else some 0) else some 0 : Option Int32) with
  | none => rw [h3] at hc; cases hc
  | some j3 =>
    rw [h3, Option.bind_some] at hc
    rw [Option.bind_some]
    cases h4 : (if Int32.ofNat (K + 1) < 4 then (if j3 = 0 then some (Int32.ofNat g) else some (Int32.ofNat g - 1)) else some (Int32.ofNat g + 1) : Option Int32) with
    | none => rw [h4] at hc; cases hc
    | some j4 =>
      rw [h4, Option.bind_some] at hc
      rw [Option.bind_some, hc, Option.bind_some, w31, Option.bind_some]
      simp only [r13, v13, r25, v25, Option.bind_some]
      cases h7 : (if Int32.ofNat (K + 1) = 2 then (if Int32.ofNat (pos h a) = 10 then (if (if c then (1 : Int32) else 0) = 0 then some 0 else some 1) else some 0) else if Int32.ofNat (K + 1) = 5 then (if Int32.ofNat (hB K M g) < 10 then some 0 else some 1) else some 0 : Option Int32) with
      | none => rw [h7] at hcw; cases hcw
      | some j7 =>
        rw [h7, Option.bind_some] at hcw
        rw [Option.bind_some]
        cases h9 : (if j7 = 0 then some 0 else if Int32.ofNat x ≤ 1 then some 0 else some 1 : Option Int32) with
        | none => rw [h9] at hcw; cases hcw
        | some j9 =>
          rw [h9, Option.bind_some] at hcw
          rw [Option.bind_some, sm_e hcw, w25]
          rfl
/-- rows of numbers that are being cooled -/
def CR (w w' : Nat → Int32) (r N : Nat) (x g : Nat → Nat) : Prop := (∀ i, i < r + 25 ∨ r + 37 ≤ i → w' i = w i) ∧ ∀ k, k < N → w' (r + 25 + k) = Int32.ofNat (x k) ∧ w' (r + 31 + k) = Int32.ofNat (g k)
theorem mcools_eq (c : Bool) (hr : r + 43 ≤ 1247) (ok : OK A) (hM : zM A < 1000000) (hm : MR w r A) : ∃ w', fX9_cools w (Int32.ofNat r) (if c then 1 else 0) = some w' ∧ MR w' r (coA A c) ∧ FR w w' r := by
  have ok' := ok
  obtain ⟨k1, k2, k3, k4, k6⟩ := ok
  obtain ⟨m0, m1, m2, m3, m4, m5, m6, m7⟩ := hm
  obtain ⟨w1, hw1, hQ⟩ := lp_inv (b := fX9_cools_b2 (Int32.ofNat r) (if c then 1 else 0)) (s := (0, w)) (fun k s => s.1 = Int32.ofNat k ∧ CR w s.2 r (zN A) (fun j => if j < k then cX A c j else zX A j) (fun j => if j < k then cG A j else zG A j)) (fun w' => CR w w' r (zN A) (cX A c) (cG A)) (zN A) (FUlt (by omega)) (fun k hk s hI => by
    obtain ⟨i, f⟩ := s
    obtain ⟨h1, h2, h3⟩ := hI
    dsimp only at h1 h2 h3
    subst h1
    have f0 : f (r + 0) = Int32.ofNat (zN A) := by rw [h2 _ (by omega)]; exact m0
    have r0 : rd f 1247 (Int32.ofNat r + 0) = some (f (r + 0)) := rd1 (c := 0) (by omega)
    by_cases hlt : k < zN A
    · left
      obtain ⟨b1, b2, b3, b4, b5, b6, b7, b8⟩ := k6 k hlt
      obtain ⟨n1, n2, n3, n4, n5, n6⟩ := m7 k hlt
      obtain ⟨x1, x2⟩ := h3 k hlt
      rw [if_neg (by omega)] at x1 x2
      have r13 : rd f 1247 (Int32.ofNat r + 13 + Int32.ofNat k) = some (f (r + 13 + k)) := rdk (c := 13) (by omega)
      have e13 : f (r + 13 + k) = Int32.ofNat (pos (zH A k) (zA A k)) := by rw [h2 _ (by omega)]; exact n2
      have e7 : f (r + 7 + k) = Int32.ofNat (zK A k + 1) := by rw [h2 _ (by omega)]; exact n1
      have e6 : f (r + 6) = Int32.ofNat (zM A) := by rw [h2 _ (by omega)]; exact m6
      simp only [fX9_cools_b2, r0, f0, Option.bind_some, if_neg (nle (a := zN A) (b := k) (by omega) (by omega) hlt), r13, e13, pos11 b2 (show zA A k < 9 by omega), o1]
      by_cases c1 : zH A k = 2
      · rw [if_pos c1]
        refine ⟨hlt, (Int32.ofNat (k + 1), f), rfl, rfl, h2, fun j hj => ?_⟩
        obtain ⟨y1, y2⟩ := h3 j hj
        dsimp only at y1 y2 ⊢
        rw [y1, y2]
        rcases Nat.lt_trichotomy j k with q | q | q
        · simp only [if_pos q, if_pos (show j < k + 1 by omega)]; exact ⟨trivial, trivial⟩
        · subst q; simp [cX, cG, c1]
        · simp only [if_neg (show ¬ j < k by omega), if_neg (show ¬ j < k + 1 by omega)]; exact ⟨trivial, trivial⟩
      · have hco := coolsOne_eq (w := f) (c := c) hr (show k < 6 by omega) b1 b5 b6 b7 hM b2 (show zA A k < 9 by omega) e7 x2 e6 e13 x1
        have eG : cG A k = hB (zK A k) (zM A) (zG A k) := by simp [cG, c1]
        have eX : cX A c k = wB (zK A k) (zX A k) (cG A k) (c && zH A k == 1) := by simp [cX, c1]
        rw [← eG, ← eX] at hco
        rw [if_neg c1, hco, Option.bind_some]
        refine ⟨hlt, (Int32.ofNat (k + 1), upd (upd f (r + 31 + k) (Int32.ofNat (cG A k))) (r + 25 + k) (Int32.ofNat (cX A c k))), rfl, rfl, fun i hi => by dsimp only; rw [upd_ne (by omega), upd_ne (by omega)]; exact h2 i hi, fun j hj => ?_⟩
        obtain ⟨y1, y2⟩ := h3 j hj
        dsimp only at y1 y2 ⊢
        rcases Nat.lt_trichotomy j k with q | q | q
        · rw [upd_ne (by omega), upd_ne (by omega), upd_ne (by omega), upd_ne (by omega), y1, y2]
          simp only [if_pos q, if_pos (show j < k + 1 by omega)]; exact ⟨trivial, trivial⟩
        · subst q
          rw [upd_same, upd_ne (by omega), upd_same]
          simp only [if_pos (show j < j + 1 by omega)]; exact ⟨trivial, trivial⟩
        · rw [upd_ne (by omega), upd_ne (by omega), upd_ne (by omega), upd_ne (by omega), y1, y2]
          simp only [if_neg (show ¬ j < k by omega), if_neg (show ¬ j < k + 1 by omega)]; exact ⟨trivial, trivial⟩
    · right
      have : k = zN A := by omega
      subst this
      refine ⟨f, ?_, h2, fun j hj => ?_⟩
      · simp only [fX9_cools_b2, r0, f0, Option.bind_some, if_pos (yle (a := zN A) (b := zN A) (by omega) (by omega) (Nat.le_refl _))]
      · obtain ⟨y1, y2⟩ := h3 j hj
        rw [if_pos hj] at y1 y2
        exact ⟨y1, y2⟩) ⟨rfl, fun i _ => rfl, fun j hj => by
      obtain ⟨n1, n2, n3, n4, n5, n6⟩ := m7 j hj
      dsimp only
      rw [if_neg (by omega), if_neg (by omega)]
      exact ⟨n4, n5⟩⟩
  obtain ⟨q1, q2⟩ := hQ
  have r6 : rd w1 1247 (Int32.ofNat r + 6) = some (w1 (r + 6)) := rd1 (c := 6) (by omega)
  have w6 : ∀ v, wr w1 1247 (Int32.ofNat r + 6) v = some (upd w1 (r + 6) v) := fun v => wr1 (c := 6) (by omega)
  have e6 : w1 (r + 6) = Int32.ofNat (zM A) := by rw [q1 _ (by omega)]; exact m6
  refine ⟨upd w1 (r + 6) (Int32.ofNat (zM A + 1)), ?_, ⟨?_, ?_, ?_, ?_, ?_, ?_, ?_, fun k hk => ?_⟩, fun i hi => by rw [upd_ne (by omega)]; exact q1 i (by omega)⟩
  · unfold fX9_cools
    rw [hw1, Option.bind_some, r6, e6, Option.bind_some, w6, o1]
    rfl
  · rw [upd_ne (by omega), q1 _ (by omega)]; exact m0
  · rw [upd_ne (by omega), q1 _ (by omega)]; exact m1
  · rw [upd_ne (by omega), q1 _ (by omega)]; exact m2
  · rw [upd_ne (by omega), q1 _ (by omega)]; exact m3
  · rw [upd_ne (by omega), q1 _ (by omega)]; exact m4
  · rw [upd_ne (by omega), q1 _ (by omega)]; exact m5
  · rw [upd_same]; rfl
  · have hk : k < zN A := hk
    obtain ⟨n1, n2, n3, n4, n5, n6⟩ := m7 k hk
    obtain ⟨x1, x2⟩ := q2 k hk
    refine ⟨?_, ?_, ?_, ?_, ?_, ?_⟩
    · rw [upd_ne (by omega), q1 _ (by omega)]; exact n1
    · rw [upd_ne (by omega), q1 _ (by omega)]; exact n2
    · rw [upd_ne (by omega), q1 _ (by omega)]; exact n3
    · rw [upd_ne (by omega)]; exact x1
    · rw [upd_ne (by omega)]; exact x2
    · rw [upd_ne (by omega), q1 _ (by omega)]; exact n6
theorem FR.trans {w w1 w2 : Nat → Int32} (h1 : FR w w1 r) (h2 : FR w1 w2 r) : FR w w2 r := fun i hi => (h2 i hi).trans (h1 i hi)
theorem passes_eq (hr : r + 43 ≤ 1247) (ok : OK A) (hM : zM A < 1000000) (hm : MR w r A) : ∃ w', fX9_passes w (Int32.ofNat r) = some w' ∧ MR w' r (pa A) ∧ FR w w' r := by
  obtain ⟨w1, h1, m1, f1⟩ := serves_eq hr ok hm
  obtain ⟨w2, h2, m2, f2⟩ := mgoes_eq hr ok.st m1
  obtain ⟨w3, h3, m3, f3⟩ := mcools_eq (gW (stA A)) hr ok.st.go (by rw [goA_M]; exact hM) m2
  refine ⟨w3, ?_, m3, (f1.trans f2).trans f3⟩
  unfold fX9_passes
  rw [h1, Option.bind_some, h2, Option.bind_some, h3]
  rfl
end MOD3
