/-! THE PLAIN LAW 12: stuck, drawn -/
set_option maxRecDepth 100000
theorem l_md {a b : Nat} (ha : a < 2 ^ 63) (hb : b < 2 ^ 63) : Int64.ofNat a - Int64.ofNat a / Int64.ofNat b * Int64.ofNat b = Int64.ofNat (a % b) := by
  rw [← Int64.ofNat_div ha hb, ← Int64.ofNat_mul]
  have h : Int64.ofNat a = Int64.ofNat (a % b) + Int64.ofNat (a / b * b) := by
    rw [← Int64.ofNat_add, Nat.mul_comm (a / b) b, Nat.mod_add_div]
  rw [h, Int64.add_sub_cancel]
theorem l_eq0 {a : Nat} (ha : a < 2 ^ 63) : (Int64.ofNat a = 0) = (a = 0) := by
  apply propext
  constructor
  · intro h
    have := congrArg Int64.toInt h
    rw [Int64.toInt_ofNat_of_lt ha] at this
    have : (a : Int) = 0 := this
    omega
  · rintro rfl; rfl
/-- Euclid ends, and its answer is not zero -/
theorem gcd_run : ∀ (k a b : Nat), a < 2 ^ 63 → b < 2 ^ k → k ≤ 40 → 0 < a + b → ∃ g : Nat, 0 < g ∧ g < 2 ^ 63 ∧ ∀ f, 2 * k < f → lp (fX0_common_b6) f (Int64.ofNat a, Int64.ofNat b) = some (Int64.ofNat g) := by
  intro k
  induction k with
  | zero =>
    intro a b ha hb hk hp
    have : b = 0 := by simpa using hb
    subst this
    refine ⟨a, by omega, ha, fun f hf => ?_⟩
    obtain ⟨f, rfl⟩ : ∃ m, f = m + 1 := ⟨f - 1, by omega⟩
    unfold lp
    rfl
  | succ k ih =>
    intro a b ha hb hk hp
    have h63 : 2 ^ (k + 1) ≤ 2 ^ 63 := Nat.pow_le_pow_right (by decide) (by omega)
    by_cases hb0 : b = 0
    · subst hb0
      refine ⟨a, by omega, ha, fun f hf => ?_⟩
      obtain ⟨f, rfl⟩ : ∃ m, f = m + 1 := ⟨f - 1, by omega⟩
      unfold lp
      rfl
    · have st : ∀ x y : Nat, x < 2 ^ 63 → y < 2 ^ 63 → y ≠ 0 → fX0_common_b6 (Int64.ofNat x, Int64.ofNat y) = some (.inl (Int64.ofNat y, Int64.ofNat (x % y))) := by
        intro x y hx hy h0
        have hz : ¬ Int64.ofNat y = 0 := fun h => h0 (Eq.mp (l_eq0 hy) h)
        unfold fX0_common_b6 gnzL
        dsimp only
        rw [if_neg hz, if_neg hz, Option.bind_some, l_md hx hy]
      have hc : a % b < b := Nat.mod_lt _ (by omega)
      have s1 := st a b ha (by omega) hb0
      by_cases hc0 : a % b = 0
      · refine ⟨b, by omega, by omega, fun f hf => ?_⟩
        obtain ⟨f, rfl⟩ : ∃ m, f = m + 2 := ⟨f - 2, by omega⟩
        unfold lp
        rw [s1]
        unfold lp
        rw [hc0]
        rfl
      · have hd : b % (a % b) < 2 ^ k := by
          have h1 := Nat.mod_lt b (show 0 < a % b by omega)
          have h2 := Nat.mod_add_div b (a % b)
          have h3 : 1 ≤ b / (a % b) := (Nat.le_div_iff_mul_le (by omega)).mpr (by omega)
          have h4 : a % b * 1 ≤ a % b * (b / (a % b)) := Nat.mul_le_mul_left _ h3
          rw [Nat.pow_succ] at hb
          omega
        obtain ⟨g, g1, g2, g3⟩ := ih (a % b) (b % (a % b)) (by omega) hd (by omega) (by omega)
        refine ⟨g, g1, g2, fun f hf => ?_⟩
        obtain ⟨f, rfl⟩ : ∃ m, f = m + 2 := ⟨f - 2, by omega⟩
        unfold lp
        rw [s1, Option.bind_some]
        dsimp only
        unfold lp
        rw [st b (a % b) (by omega) (by omega) hc0, Option.bind_some]
        exact g3 f (by omega)
theorem w_i64 : ∀ e : Fin 11, (Int32.ofNat e.val).toInt64 = Int64.ofNat e.val ∧ ((10 : Int32) - Int32.ofNat e.val).toInt64 = Int64.ofNat (10 - e.val) := by decide +kernel
theorem sh8 : ∀ n : Fin 9, ((1 : Int32) <<< (Int32.ofNat n.val &&& 31)) = Int32.ofNat (2 ^ n.val) := by decide +kernel
theorem has01 (a b : Int32) : ∃ q : Int32, fX9_has a b = some q := by
  unfold fX9_has
  split
  · exact ⟨_, rfl⟩
  · exact ⟨_, rfl⟩
section ST
variable {ln : Nat → Option Int32} {lf : Nat → Nat → Option Nat} {dk : Nat → Option Nat} {hv tv v : HV} {w : Nat → Int32} {A : AH}
theorem co_M (A : AH) (c : Bool) : zM (coA A c) = zM A + 1 := rfl
theorem co_N (A : AH) (c : Bool) : zN (coA A c) = zN A := rfl
theorem stuck_in (p2 p3 : Int32) {n e : Nat} (e2 : p2 = Int32.ofNat n) (e3 : p3 = Int32.ofNat e) (hn : n ≤ 8) (he : e ≤ 10) (x y : Int64) (m : Int32) (tv : HV) (u : Nat → Int32) (ok : OK A) (hM : zM A ≤ 999) (hS : SR ln lf dk v A) (hm : MR w 43 A) :
    ∃ P B v' w', lp (fX0_stuck_b95 ln lf dk p2 p3 (x, m, tv)) FU (1, 0, v) = some (Int64.ofNat P, v') ∧ lp (fX9_stuck_b97 p2 p3 (y, m, u)) FU (1, 0, w) = some (Int64.ofNat P, w') ∧ P ≤ 10 ^ n ∧ zN B = zN A ∧ OK B ∧ SR ln lf dk v' B ∧ MR w' 43 B ∧ FR w w' 43 := by
  subst e2; subst e3
  obtain ⟨r, r', h1, h2, P, B, h3, h4, h5⟩ := lp_sim (b := fX0_stuck_b95 ln lf dk (Int32.ofNat n) (Int32.ofNat e) (x, m, tv)) (b' := fX9_stuck_b97 (Int32.ofNat n) (Int32.ofNat e) (y, m, u)) (s := (1, 0, v)) (s' := (1, 0, w))
    (fun (k : Nat) (s : Int64 × Int32 × HV) (s' : Int64 × Int32 × (Nat → Int32)) => ∃ (P : Nat) (B : AH), s.1 = Int64.ofNat P ∧ s'.1 = Int64.ofNat P ∧ P ≤ 10 ^ k ∧ s.2.1 = Int32.ofNat k ∧ s'.2.1 = Int32.ofNat k ∧ zN B = zN A ∧ zM B = zM A + k ∧ OK B ∧ SR ln lf dk s.2.2 B ∧ MR s'.2.2 43 B ∧ FR w s'.2.2 43)
    (fun (t : Int64 × HV) (t' : Int64 × (Nat → Int32)) => ∃ (P : Nat) (B : AH), t.1 = Int64.ofNat P ∧ t'.1 = Int64.ofNat P ∧ P ≤ 10 ^ n ∧ zN B = zN A ∧ OK B ∧ SR ln lf dk t.2 B ∧ MR t'.2 43 B ∧ FR w t'.2 43) n (FUlt (by omega)) (fun k hk s s' hI => by
      obtain ⟨P, B, i1, i2, i3, i4, i5, i6, i7, i8, i9, i10, i11⟩ := hI
      obtain ⟨a, i, z⟩ := s
      obtain ⟨a', i', z'⟩ := s'
      dsimp only at i1 i2 i4 i5 i9 i10 i11
      subst i1; subst i2; subst i4; subst i5
      by_cases hlt : k < n
      · left
        refine ⟨hlt, ?_⟩
        obtain ⟨q, hq⟩ := has01 m (Int32.ofNat k)
        have hq0 : fX0_has m (Int32.ofNat k) = some q := hq
        have hw := w_i64 ⟨e, by omega⟩
        dsimp only at hw
        have hp10 : ∀ c, c ≤ 10 → P * c ≤ 10 ^ (k + 1) := fun c hc => by rw [Nat.pow_succ]; exact Nat.mul_le_mul i3 hc
        unfold fX0_stuck_b95 fX9_stuck_b97
        dsimp only
        rw [if_neg (nle (a := n) (b := k) (by omega) (by omega) hlt), if_neg (nle (a := n) (b := k) (by omega) (by omega) hlt), hq, hq0, Option.bind_some, Option.bind_some, hw.1, hw.2]
        by_cases q0 : q = 0
        · obtain ⟨v2, g1, g2, -⟩ := pass_eq i8 (by omega) i9
          obtain ⟨w2, f1, f2, f3⟩ := passes_eq (r := 43) (by omega) i8 (by omega) i10
          rw [if_pos q0, Option.bind_some, Option.bind_some, Option.bind_some, Option.bind_some, if_pos q0, if_pos q0, g1, show fX9_passes z' 43 = some w2 from f1, Option.bind_some, Option.bind_some, ← Int64.ofNat_mul, o1]
          exact ⟨_, _, rfl, rfl, P * (10 - e), pa B, rfl, rfl, hp10 _ (by omega), rfl, rfl, (pa_N B).trans i6, by rw [pa_M]; omega, i8.pa, g2, f2, i11.trans f3⟩
        · obtain ⟨v2, g1, g2, -⟩ := sticks_eq i8 (by omega) i9
          obtain ⟨w2, f1, f2, f3⟩ := mcools_eq false (r := 43) (by omega) i8 (by omega) i10
          rw [if_neg q0, Option.bind_some, Option.bind_some, Option.bind_some, Option.bind_some, if_neg q0, if_neg q0, g1, show fX9_cools z' 43 0 = some w2 from f1, Option.bind_some, Option.bind_some, ← Int64.ofNat_mul, o1]
          exact ⟨_, _, rfl, rfl, P * e, coA B false, rfl, rfl, hp10 _ (by omega), rfl, rfl, i6, by rw [co_M]; omega, i8.co _, g2, f2, i11.trans f3⟩
      · right
        have : k = n := by omega
        subst this
        unfold fX0_stuck_b95 fX9_stuck_b97
        dsimp only
        rw [if_pos (yle (a := k) (b := k) (by omega) (by omega) (Nat.le_refl _)), if_pos (yle (a := k) (b := k) (by omega) (by omega) (Nat.le_refl _))]
        exact ⟨_, _, rfl, rfl, P, B, rfl, rfl, i3, i6, i8, i9, i10, i11⟩) ⟨1, A, rfl, rfl, by simp, rfl, rfl, rfl, rfl, ok, hS, hm, fun i _ => rfl⟩
  obtain ⟨t1, t2⟩ := r
  obtain ⟨t1', t2'⟩ := r'
  obtain ⟨h6, h7, h8, h9, h10, h11⟩ := h5
  dsimp only at h3 h4 h6 h7 h8 h9 h10 h11
  subst h3; subst h4
  exact ⟨P, B, _, _, h1, h2, h6, h7, h8, h9, h10, h11⟩
theorem ten_loop (p2 : Int32) {n : Nat} (e2 : p2 = Int32.ofNat n) (hn : n ≤ 8) : lp (fX0_stuck_b53 p2) FU (1, 0) = some (Int64.ofNat (10 ^ n)) := by
  subst e2
  exact lp_cnt (n := n) (FUlt (by omega)) (fun k => (Int64.ofNat (10 ^ k), Int32.ofNat k)) (fun k hk => by
    unfold fX0_stuck_b53
    dsimp only
    rw [if_neg (nle (a := n) (b := k) (by omega) (by omega) hk), show (10 : Int64) = Int64.ofNat 10 from rfl, ← Int64.ofNat_mul, ← Nat.pow_succ, o1]) (by
    unfold fX0_stuck_b53
    dsimp only
    rw [if_pos (yle (a := n) (b := n) (by omega) (by omega) (Nat.le_refl _))])
theorem pos11b {B : AH} (ok : OK B) {d : Nat} (hd : d < zN B) : (Int32.ofNat (pos (zH B d) (zA B d)) = 11) = (zH B d = 2) := by
  have h1 := (ok.2.2.2.2 d hd).2.1
  have h2 := (ok.2.2.2.2 d hd).2.2.1
  have h3 := ok.2.1
  rw [show (11 : Int32) = Int32.ofNat 11 from rfl, q_eq (by unfold pos; split <;> omega) (by omega)]
  apply propext
  unfold pos
  split <;> omega
theorem act_stuck (hT : TV ln lf dk hv w) (tv : HV) (p1 p2 p3 p4 : Int32) : ∃ ans tv' w', fX0_stuck ln lf dk hv tv p1 p2 p3 p4 = some (ans, tv') ∧ fX9_stuck w p1 p2 p3 p4 = some (ans, w') ∧ FR w w' 43 := by
  rcases hT with hE | ⟨A, hL⟩
  · refine ⟨-1000001, tv, w, ?_, ?_, fun i _ => rfl⟩
    · unfold fX0_stuck
      rw [isDish_s hE.1 (by omega), Option.bind_some, g01, if_neg (by omega)]
    · unfold fX9_stuck
      rw [isDish_m hE.2.2.2.1 (by omega), Option.bind_some, g01, if_neg (by omega)]
  · have hL0 := hL
    obtain ⟨hS, hm, ok, hN1, hM, hn⟩ := hL
    have hN6 := ok.1
    have hD := isDish_s hS.1 (by omega) p1
    have hD' := isDish_m (w := w) (by rw [← hm.1]) (show zN A < 10 by omega) p1
    have e2 : fX0_isIn p2.toInt64 0 8 = some (if 0 ≤ p2.toInt ∧ p2.toInt ≤ 8 then 1 else 0) := inl_eq p2 0 8 (by omega) (by omega)
    have e3 : fX0_isIn p3.toInt64 0 10 = some (if 0 ≤ p3.toInt ∧ p3.toInt ≤ 10 then 1 else 0) := inl_eq p3 0 10 (by omega) (by omega)
    unfold fX0_stuck fX9_stuck
    rw [hD, hD', Option.bind_some, Option.bind_some, g01, g01]
    by_cases c1 : 0 ≤ p1.toInt ∧ p1.toInt < zN A
    · rw [if_pos c1, if_pos c1, in_same, e2, Option.bind_some, Option.bind_some, g01, g01]
      by_cases c2 : 0 ≤ p2.toInt ∧ p2.toInt ≤ 8
      · rw [if_pos c2, if_pos c2, in_same, e3, Option.bind_some, Option.bind_some, g01, g01]
        by_cases c3 : 0 ≤ p3.toInt ∧ p3.toInt ≤ 10
        · rw [if_pos c3, if_pos c3, isHalf_s, in01, Option.bind_some, Option.bind_some, g01, g01]
          by_cases c4 : 0 ≤ p4.toInt ∧ p4.toInt ≤ 1
          · rw [if_pos c4, if_pos c4]
            obtain ⟨d, rfl, hd1, hd2⟩ := i32_of c1.1
            obtain ⟨n, e2', hn1, hn2⟩ := i32_of c2.1
            obtain ⟨e, e3', he1, he2⟩ := i32_of c3.1
            have hd : d < zN A := by omega
            have d6 : d < 6 := by omega
            have hn8 : n ≤ 8 := by omega
            have he10 : e ≤ 10 := by omega
            have hT10 : 10 ^ n ≤ 10 ^ 8 := Nat.pow_le_pow_right (by decide) hn8
            have hT1 : 0 < 10 ^ n := Nat.pow_pos (by decide)
            have h2n : 2 ^ n ≤ 2 ^ 8 := Nat.pow_le_pow_right (by decide) hn8
            have l1 := ten_loop p2 e2' hn8
            obtain ⟨r, r', h1, h2, h3⟩ := lp_sim (b := fX0_stuck_b76 ln lf dk hv (Int32.ofNat d) p2 p3) (b' := fX9_stuck_b79 (Int32.ofNat d) p2 p3) (s := (0, 0, tv)) (s' := (0, 0, w))
              (fun (k : Nat) (s : Int64 × Int32 × HV) (s' : Int64 × Int32 × (Nat → Int32)) => ∃ S : Nat, s.1 = Int64.ofNat S ∧ s'.1 = Int64.ofNat S ∧ S ≤ k * 10 ^ n ∧ s.2.1 = Int32.ofNat k ∧ s'.2.1 = Int32.ofNat k ∧ FR w s'.2.2 43)
              (fun (t : Int64 × HV) (t' : Int64 × (Nat → Int32)) => ∃ S : Nat, t.1 = Int64.ofNat S ∧ t'.1 = Int64.ofNat S ∧ S ≤ 2 ^ n * 10 ^ n ∧ FR w t'.2 43) (2 ^ n) (FUlt (by omega)) (fun k hk s s' hI => by
                obtain ⟨S, i1, i2, i3, i4, i5, i6⟩ := hI
                obtain ⟨a, i, z⟩ := s
                obtain ⟨a', i', z'⟩ := s'
                dsimp only at i1 i2 i4 i5 i6
                subst i1; subst i2; subst i4; subst i5
                have hp : ((1 : Int32) <<< (p2 &&& 31)) = Int32.ofNat (2 ^ n) := by rw [e2']; exact sh8 ⟨n, by omega⟩
                by_cases hlt : k < 2 ^ n
                · left
                  refine ⟨hlt, ?_⟩
                  have hLk := hL0.try i6
                  obtain ⟨v1, t1, t2, t3⟩ := tried_eq hLk z
                  obtain ⟨w1, u1, u2, u3, u4⟩ := tries_eq ok.1 hLk.2.1
                  obtain ⟨P, B, v2, w2, j1, j2, j3, j4, j5, j6, j7, j8⟩ := stuck_in p2 p3 e2' e3' hn8 he10 (Int64.ofNat S) (Int64.ofNat S) (Int32.ofNat k) z z' ok hM t2 u2
                  have hdB : d < zN B := by omega
                  have hg2 : (Int32.ofNat (zH B d) = 2) = (zH B d = 2) := q_eq (c := 2) (by have := (j5.2.2.2.2 d hdB).2.1; omega) (by omega)
                  have hS1 : S + P ≤ (k + 1) * 10 ^ n := by rw [Nat.add_mul, Nat.one_mul]; omega
                  have hS2 : S ≤ (k + 1) * 10 ^ n := by rw [Nat.add_mul, Nat.one_mul]; omega
                  unfold fX0_stuck_b76 fX9_stuck_b79
                  dsimp only
                  rw [hp, if_neg (nle (a := 2 ^ n) (b := k) (by omega) (by omega) hlt), if_neg (nle (a := 2 ^ n) (b := k) (by omega) (by omega) hlt), t1, u1, Option.bind_some, Option.bind_some, j1, j2, Option.bind_some, Option.bind_some]
                  dsimp only
                  rw [rdn d6 (by omega), (j6.2.2.2.2.2.2.2 d hdB).1, show rd w2 1247 (56 + Int32.ofNat d) = some (w2 (56 + d)) from rdc (c := 56) (by omega), show w2 (56 + d) = _ from mAT j7 hdB, Option.bind_some, Option.bind_some, o1]
                  by_cases c5 : zH B d = 2
                  · rw [if_pos (Eq.mpr hg2 c5), if_pos (Eq.mpr (pos11b j5 hdB) c5), ← Int64.ofNat_add]
                    exact ⟨_, _, rfl, rfl, S + P, rfl, rfl, hS1, rfl, rfl, (i6.trans u4).trans j8⟩
                  · rw [if_neg (fun h => c5 (Eq.mp hg2 h)), if_neg (fun h => c5 (Eq.mp (pos11b j5 hdB) h)), show Int64.ofNat S + 0 = Int64.ofNat S from Int64.add_zero _]
                    exact ⟨_, _, rfl, rfl, S, rfl, rfl, hS2, rfl, rfl, (i6.trans u4).trans j8⟩
                · right
                  have hk2 : k = 2 ^ n := by omega
                  subst hk2
                  unfold fX0_stuck_b76 fX9_stuck_b79
                  dsimp only
                  rw [hp, if_pos (yle (a := 2 ^ n) (b := 2 ^ n) (by omega) (by omega) (Nat.le_refl _)), if_pos (yle (a := 2 ^ n) (b := 2 ^ n) (by omega) (by omega) (Nat.le_refl _))]
                  exact ⟨_, _, rfl, rfl, S, rfl, rfl, i3, i6⟩) ⟨0, rfl, rfl, by omega, rfl, rfl, fun i _ => rfl⟩
            obtain ⟨a, z⟩ := r
            obtain ⟨a', z'⟩ := r'
            obtain ⟨S, h4, h5, h6, h7⟩ := h3
            dsimp only at h4 h5 h6 h7
            subst h4; subst h5
            have h8 : 2 ^ n * 10 ^ n ≤ 2 ^ 8 * 10 ^ 8 := Nat.mul_le_mul h2n hT10
            obtain ⟨g, g1, g2, g3⟩ := gcd_run 40 S (10 ^ n) (by omega) (by omega) (Nat.le_refl _) (by omega)
            have g4 := g3 FU (by rw [FU_val]; omega)
            have hnz : gnzL (Int64.ofNat g) = some () := by
              unfold gnzL
              rw [if_neg (fun h => by have := Eq.mp (l_eq0 g2) h; omega)]
            rw [l1, show lp (fX9_stuck_b56 p2) FU (1, 0) = some (Int64.ofNat (10 ^ n)) from l1, h1, h2, Option.bind_some, Option.bind_some, Option.bind_some, Option.bind_some]
            dsimp only
            unfold fX0_common
            rw [g4, show lp (fX9_stuck_b199) FU (Int64.ofNat S, Int64.ofNat (10 ^ n)) = some (Int64.ofNat g) from g4, Option.bind_some]
            rcases p01 c4 with q | q
            · rw [if_pos q, Option.bind_some, Option.bind_some, Option.bind_some, if_pos q, hnz, Option.bind_some, Option.bind_some]
              exact ⟨_, _, _, rfl, rfl, h7⟩
            · rw [if_neg (show ¬ p4 = 0 by rw [q]; decide), Option.bind_some, Option.bind_some, Option.bind_some, if_neg (show ¬ p4 = 0 by rw [q]; decide), hnz, Option.bind_some, Option.bind_some]
              exact ⟨_, _, _, rfl, rfl, h7⟩
          · rw [if_neg c4, if_neg c4]; exact ⟨_, _, _, rfl, rfl, fun i _ => rfl⟩
        · rw [if_neg c3, if_neg c3]; exact ⟨_, _, _, rfl, rfl, fun i _ => rfl⟩
      · rw [if_neg c2, if_neg c2]; exact ⟨_, _, _, rfl, rfl, fun i _ => rfl⟩
    · rw [if_neg c1, if_neg c1]; exact ⟨_, _, _, rfl, rfl, fun i _ => rfl⟩
end ST
