/-! THE PLAIN LAW 10: dish, car, kind, share -/
set_option maxRecDepth 100000
section A4
variable {ln : Nat → Option Int32} {lf : Nat → Nat → Option Nat} {dk : Nat → Option Nat} {hv tv v : HV} {w : Nat → Int32} {A : AH}
theorem good_out (b : Bool) : ((if (if b then (1 : Int32) else 0) = 0 then some 0 else some 1 : Option Int32)) = some (if b then 1 else 0) := by cases b <;> rfl
theorem act_dish (hT : TV ln lf dk hv w) (p1 p2 : Int32) : ∃ ans, fX0_dish ln lf dk hv p1 p2 = some ans ∧ fX9_dish w p1 p2 = some ans := by
  rcases hT with hE | ⟨A, hL⟩
  · refine ⟨-1000001, ?_, ?_⟩
    · unfold fX0_dish
      rw [isDish_s hE.1 (by omega), Option.bind_some, g01, if_neg (by omega)]
    · unfold fX9_dish
      rw [isDish_m hE.2.2.2.1 (by omega), Option.bind_some, g01, if_neg (by omega)]
  · obtain ⟨hS, hm, ok, hN1, hM, hn⟩ := hL
    have hN6 := ok.1
    have hD := isDish_s hS.1 (by omega) p1
    have hD' := isDish_m (w := w) (by rw [← hm.1]) (show zN A < 10 by omega) p1
    unfold fX0_dish fX9_dish
    rw [hD, hD', Option.bind_some, Option.bind_some, g01, g01]
    by_cases c1 : 0 ≤ p1.toInt ∧ p1.toInt < zN A
    · rw [if_pos c1, if_pos c1]
      obtain ⟨d, rfl, hd1, hd2⟩ := i32_of c1.1
      have hd : d < zN A := by omega
      have d6 : d < 6 := by omega
      obtain ⟨b1, b2, b3, b4, b5, b6, b7, b8⟩ := ok.2.2.2.2 d hd
      obtain ⟨s1, s2, s3, s4, s5, s6, e, s7, s8⟩ := hS.2.2.2.2.2.2.2 d hd
      obtain ⟨n1, n2, n3, n4, n5, n6⟩ := hm.2.2.2.2.2.2.2 d hd
      simp only [Nat.zero_add] at n1 n2 n3 n4 n5 n6
      by_cases q0 : p2 = 0
      · rw [if_pos q0, if_pos q0, whereIn_eq ok hS hd, show rd w 1247 (13 + Int32.ofNat d) = some (w (13 + d)) from rdc (c := 13) (by omega), n2]
        exact ⟨_, rfl, rfl⟩
      rw [if_neg q0, if_neg q0]
      by_cases q1 : p2 = 1
      · rw [if_pos q1, if_pos q1, rdn d6 (by omega), s3, show rd w 1247 (19 + Int32.ofNat d) = some (w (19 + d)) from rdc (c := 19) (by omega), n3]
        exact ⟨_, rfl, rfl⟩
      rw [if_neg q1, if_neg q1]
      by_cases q2 : p2 = 2
      · rw [if_pos q2, if_pos q2, rdn d6 (by omega), s4, show rd w 1247 (25 + Int32.ofNat d) = some (w (25 + d)) from rdc (c := 25) (by omega), n4]
        exact ⟨_, rfl, rfl⟩
      rw [if_neg q2, if_neg q2]
      by_cases q3 : p2 = 3
      · rw [if_pos q3, if_pos q3, rdn d6 (by omega), s5, show rd w 1247 (31 + Int32.ofNat d) = some (w (31 + d)) from rdc (c := 31) (by omega), n5]
        exact ⟨_, rfl, rfl⟩
      rw [if_neg q3, if_neg q3]
      by_cases q4 : p2 = 4
      · have hg := mgood_eq ⟨zK A d, b1⟩ ⟨zG A d, by omega⟩
        dsimp only at hg
        rw [if_pos q4, if_pos q4, s7, Option.bind_some, rdn d6 (by omega), s5, Option.bind_some, good_eq s8 b1 b7, Option.bind_some, show rd w 1247 (7 + Int32.ofNat d) = some (w (7 + d)) from rdc (c := 7) (by omega), n1, Option.bind_some, show rd w 1247 (31 + Int32.ofNat d) = some (w (31 + d)) from rdc (c := 31) (by omega), n5, Option.bind_some, hg, Option.bind_some, good_out]
        exact ⟨_, rfl, rfl⟩
      rw [if_neg q4, if_neg q4]
      exact ⟨_, rfl, rfl⟩
    · rw [if_neg c1, if_neg c1]; exact ⟨_, rfl, rfl⟩
theorem called_v (ok : OK A) (hS : SR ln lf dk v A) : gX1_called ln v = some (bs 9 (cst A)) := by
  obtain ⟨e1, e2, e3, e4, e5, e6, e7, e8⟩ := hS
  unfold gX1_called
  rw [e4, e5]
  exact called_eq e1 ok (fun k hk => (e8 k hk).1) (fun k hk => (e8 k hk).2.1) (fun k hk => (e8 k hk).2.2.1) (fun k hk => (e8 k hk).2.2.2.1)
theorem load_v (ok : OK A) (hS : SR ln lf dk v A) : gX1_load ln v = some (ld A (zH A)) :=
  load_eq hS.1 ok.1 (fun k hk => (hS.2.2.2.2.2.2.2 k hk).1) (fun k hk => (ok.2.2.2.2 k hk).2.1) (fun k hk => (hS.2.2.2.2.2.2.2 k hk).2.2.2.1)
theorem r0n {w : Nat → Int32} {c : Nat} (h : c < 1247) : rd w 1247 (Int32.ofNat c) = some (w c) := rdn h (by omega)
theorem act_car (hT : TV ln lf dk hv w) (p1 : Int32) : ∃ ans, fX0_car ln hv p1 = some ans ∧ fX9_car w p1 = some ans := by
  rcases hT with hE | ⟨A, hL⟩
  · obtain ⟨h1, h2⟩ := noHouse hE
    refine ⟨-1000002, ?_, ?_⟩
    · unfold fX0_car
      rw [h1, Option.bind_some, if_pos rfl]
    · unfold fX9_car
      rw [h2, Option.bind_some, if_pos rfl]
  · obtain ⟨h1, h2⟩ := yesHouse hL
    obtain ⟨hS, hm, ok, hN1, hM, hn⟩ := hL
    have hS' := hS
    have hm' := hm
    obtain ⟨e1, e2, e3, e4, e5, e6, e7, e8⟩ := hS
    obtain ⟨m0, m1, m2, m3, m4, m5, m6, m7⟩ := hm
    simp only [Nat.zero_add] at m0 m1 m2 m3 m4 m5 m6
    unfold fX0_car fX9_car
    rw [h1, h2, Option.bind_some, Option.bind_some, if_neg (show ¬ (1 : Int32) = 0 by decide), if_neg (show ¬ (1 : Int32) = 0 by decide)]
    by_cases q0 : p1 = 0
    · rw [if_pos q0, if_pos q0, e2, show rd w 1247 1 = some (w 1) from r0n (c := 1) (by omega), m1]; exact ⟨_, rfl, rfl⟩
    rw [if_neg q0, if_neg q0]
    by_cases q1 : p1 = 1
    · rw [if_pos q1, if_pos q1, e5, show rd w 1247 4 = some (w 4) from r0n (c := 4) (by omega), m4]; exact ⟨_, rfl, rfl⟩
    rw [if_neg q1, if_neg q1]
    by_cases q2 : p1 = 2
    · rw [if_pos q2, if_pos q2, e6, show rd w 1247 5 = some (w 5) from r0n (c := 5) (by omega), m5]; exact ⟨_, rfl, rfl⟩
    rw [if_neg q2, if_neg q2]
    by_cases q3 : p1 = 3
    · rw [if_pos q3, if_pos q3, e3, show rd w 1247 2 = some (w 2) from r0n (c := 2) (by omega), m2]; exact ⟨_, rfl, rfl⟩
    rw [if_neg q3, if_neg q3]
    by_cases q4 : p1 = 4
    · rw [if_pos q4, if_pos q4, e4, show rd w 1247 3 = some (w 3) from r0n (c := 3) (by omega), m3]; exact ⟨_, rfl, rfl⟩
    rw [if_neg q4, if_neg q4]
    have hi : fX9_insideOf w 0 = _ := insideOf_v (r := 0) (by omega) ok hm'
    by_cases q5 : p1 = 5
    · rw [if_pos q5, if_pos q5, areSo1 ok hS', hi]; exact ⟨_, rfl, rfl⟩
    rw [if_neg q5, if_neg q5]
    by_cases q6 : p1 = 6
    · rw [if_pos q6, if_pos q6, areSo2 ok hS', show fX9_servedOf w 0 = _ from servedOf_v (r := 0) (by omega) ok hm']; exact ⟨_, rfl, rfl⟩
    rw [if_neg q6, if_neg q6]
    by_cases q7 : p1 = 7
    · rw [if_pos q7, if_pos q7, called_v ok hS', show fX9_calledOf w 0 = _ from calledOf_eq (r := 0) (by omega) ok hm']; exact ⟨_, rfl, rfl⟩
    rw [if_neg q7, if_neg q7]
    by_cases q8 : p1 = 8
    · have hw : fX9_weightOf w 0 (bs (zN A) (fun k => zH A k == 1)) = some (ld A (zH A)) := by
        rw [show fX9_weightOf w 0 (bs (zN A) (fun k => zH A k == 1)) = _ from weightOf_eq (r := 0) (x := zX A) (by omega) hm'.1 ok.1 (fun k hk => (m7 k hk).2.2.2.1)]
        exact congrArg some (sm_congr (fun k _ => by simp))
      rw [if_pos q8, if_pos q8, load_v ok hS', hi, Option.bind_some, Option.bind_some, hw]; exact ⟨_, rfl, rfl⟩
    rw [if_neg q8, if_neg q8]
    exact ⟨_, rfl, rfl⟩
theorem kind_eq {e K : Nat} (hk : dk e = some K) (hK : K < 5) : fdish_kind dk e = some (Int32.ofNat (K + 1)) := by
  unfold fdish_kind
  rw [hk, Option.bind_some]
  rcases (show K = 0 ∨ K = 1 ∨ K = 2 ∨ K = 3 ∨ K = 4 by omega) with rfl | rfl | rfl | rfl | rfl <;> rfl
/-- a dish that isn't taken for another is the list's -/
theorem dish_list (hn : Htf v = (-1000000)) {k e : Nat} (hk : k < 6) (h : gX1_dish ln lf dk v (Int32.ofNat k) = some e) : lget ln lf (Hla v) (Int32.ofNat k) = some e := by
  have h : fX1_dish ln lf dk (Hla v) (Htf v) (Htk v) (Int32.ofNat k) = some e := h
  unfold fX1_dish at h
  rw [hn, if_neg (nNone hk)] at h
  obtain ⟨e2, h1, h⟩ := op_e h
  obtain ⟨k3, h2, h⟩ := op_e h
  rw [← sm_e h]
  exact h1
theorem act_kind (hT : TV ln lf dk hv w) (p1 : Int32) : ∃ ans, fX0_kind ln lf dk hv p1 = some ans ∧ fX9_kind w p1 = some ans := by
  rcases hT with hE | ⟨A, hL⟩
  · refine ⟨-1000001, ?_, ?_⟩
    · unfold fX0_kind
      rw [isDish_s hE.1 (by omega), Option.bind_some, g01, if_neg (by omega)]
    · unfold fX9_kind
      rw [isDish_m hE.2.2.2.1 (by omega), Option.bind_some, g01, if_neg (by omega)]
  · obtain ⟨hS, hm, ok, hN1, hM, hn⟩ := hL
    have hN6 := ok.1
    have hD := isDish_s hS.1 (by omega) p1
    have hD' := isDish_m (w := w) (by rw [← hm.1]) (show zN A < 10 by omega) p1
    unfold fX0_kind fX9_kind
    rw [hD, hD', Option.bind_some, Option.bind_some, g01, g01]
    by_cases c1 : 0 ≤ p1.toInt ∧ p1.toInt < zN A
    · rw [if_pos c1, if_pos c1]
      obtain ⟨d, rfl, hd1, hd2⟩ := i32_of c1.1
      have hd : d < zN A := by omega
      have d6 : d < 6 := by omega
      obtain ⟨b1, -⟩ := ok.2.2.2.2 d hd
      obtain ⟨s1, s2, s3, s4, s5, s6, e, s7, s8⟩ := hS.2.2.2.2.2.2.2 d hd
      obtain ⟨n1, -⟩ := hm.2.2.2.2.2.2.2 d hd
      simp only [Nat.zero_add] at n1
      rw [dish_list hn d6 s7, Option.bind_some, s8, Option.bind_some, kind_eq s8 b1, show rd w 1247 (7 + Int32.ofNat d) = some (w (7 + d)) from rdc (c := 7) (by omega), n1]
      exact ⟨_, rfl, rfl⟩
    · rw [if_neg c1, if_neg c1]; exact ⟨_, rfl, rfl⟩
/-! shares -/
def sn : Nat → (Nat → Nat) → Nat
  | 0, _ => 0
  | n + 1, f => sn n f + f n
theorem sm_sn (f : Nat → Nat) : ∀ n, sm n (fun k => Int32.ofNat (f k)) = Int32.ofNat (sn n f)
  | 0 => rfl
  | n + 1 => by
    show sm n _ + _ = _
    rw [sm_sn f n, oadd]; rfl
theorem sn_le {f : Nat → Nat} {b : Nat} : ∀ n, (∀ k, k < n → f k ≤ b) → sn n f ≤ n * b
  | 0, _ => Nat.zero_le _
  | n + 1, h => by
    have h1 := sn_le n (fun k hk => h k (by omega))
    have h2 := h n (by omega)
    show sn n f + f n ≤ _
    rw [Nat.add_mul]
    omega
theorem sn_pos {f : Nat → Nat} : ∀ {n d : Nat}, d < n → f d ≤ sn n f
  | 0, _, h => by omega
  | n + 1, d, h => by
    show f d ≤ sn n f + f n
    by_cases e : d = n
    · subst e; omega
    · have := sn_pos (f := f) (n := n) (d := d) (by omega)
      omega
theorem sn_split {f g : Nat → Nat} {c : Nat → Prop} [DecidablePred c] : ∀ n, sn n f = sn n (fun k => if c k then f k else 0) + sn n (fun k => if c k then 0 else f k)
  | 0 => rfl
  | n + 1 => by
    show sn n f + f n = _
    rw [sn_split (g := g) (c := c) n]
    show _ = (sn n _ + _) + (sn n _ + _)
    dsimp only
    split <;> omega
def cl (A : AH) (k : Nat) : Nat := if zH A k = 2 then 0 else zG A k
theorem cl_le (ok : OK A) {k : Nat} (hk : k < zN A) : cl A k ≤ 60 := by
  have := (ok.2.2.2.2 k hk).2.2.2.2.2.2.1
  unfold cl
  split <;> omega
theorem hal_sn (A : AH) : hal A = Int32.ofNat (sn (zN A) (zG A)) := sm_sn (zG A) _
theorem hsv_sn (A : AH) : hsv A = Int32.ofNat (sn (zN A) (fun k => if zH A k = 2 then zG A k else 0)) := by
  unfold hsv
  rw [← sm_sn]
  exact sm_congr (fun k _ => by split <;> rfl)
theorem all_eq (A : AH) : hal A - hsv A = Int32.ofNat (sn (zN A) (cl A)) := by
  rw [hal_sn, hsv_sn]
  have h := sn_split (f := zG A) (g := zG A) (c := fun k => zH A k = 2) (zN A)
  have h2 : sn (zN A) (fun k => if zH A k = 2 then 0 else zG A k) = sn (zN A) (cl A) := rfl
  rw [h2] at h
  rw [← Int32.ofNat_sub _ _ (by omega)]
  congr 1
  omega
theorem claim_eq (ok : OK A) (hS : SR ln lf dk v A) {d : Nat} (hd : d < zN A) : fX0_claim v (Int32.ofNat d) = some (Int32.ofNat (cl A d)) := by
  have hN := ok.1
  obtain ⟨b1, b2, b3, b4, b5, b6, b7, b8⟩ := ok.2.2.2.2 d hd
  obtain ⟨s1, s2, s3, s4, s5, s6, e, s7, s8⟩ := hS.2.2.2.2.2.2.2 d hd
  have d6 : d < 6 := by omega
  have g2 : (Int32.ofNat (zH A d) = 2) = (zH A d = 2) := q_eq (c := 2) (by omega) (by omega)
  unfold fX0_claim
  rw [rdn d6 (by omega), s1, Option.bind_some]
  by_cases c : zH A d = 2
  · rw [if_pos (Eq.mpr g2 c)]; simp [cl, c]
  · rw [if_neg (fun h => c (Eq.mp g2 h)), rdn d6 (by omega), s5]; simp [cl, c]
theorem act_share (hT : TV ln lf dk hv w) (p1 p2 : Int32) : ∃ ans, fX0_share ln hv p1 p2 = some ans ∧ fX9_share w p1 p2 = some ans := by
  rcases hT with hE | ⟨A, hL⟩
  · refine ⟨-1000001, ?_, ?_⟩
    · unfold fX0_share
      rw [isDish_s hE.1 (by omega), Option.bind_some, g01, if_neg (by omega)]
    · unfold fX9_share
      rw [isDish_m hE.2.2.2.1 (by omega), Option.bind_some, g01, if_neg (by omega)]
  · obtain ⟨hS, hm, ok, hN1, hM, hn⟩ := hL
    have hN6 := ok.1
    have hD := isDish_s hS.1 (by omega) p1
    have hD' := isDish_m (w := w) (by rw [← hm.1]) (show zN A < 10 by omega) p1
    unfold fX0_share fX9_share
    rw [hD, hD', Option.bind_some, Option.bind_some, g01, g01]
    by_cases c1 : 0 ≤ p1.toInt ∧ p1.toInt < zN A
    · rw [if_pos c1, if_pos c1, in_same, show fX0_isIn p2.toInt64 0 999 = _ from inl_eq p2 0 999 (by omega) (by omega), Option.bind_some, Option.bind_some, g01, g01]
      by_cases c2 : (0 : Nat) ≤ p2.toInt ∧ p2.toInt ≤ (999 : Nat)
      · rw [if_pos c2, if_pos c2]
        obtain ⟨d, rfl, hd1, hd2⟩ := i32_of c1.1
        have hd : d < zN A := by omega
        have d6 : d < 6 := by omega
        obtain ⟨b1, b2, b3, b4, b5, b6, b7, b8⟩ := ok.2.2.2.2 d hd
        obtain ⟨n1, n2, n3, n4, n5, n6⟩ := hm.2.2.2.2.2.2.2 d hd
        simp only [Nat.zero_add] at n1 n2 n3 n4 n5 n6
        have hcl := claim_eq ok hS hd
        have hle := cl_le ok hd
        have g11 := pos11 b2 (show zA A d < 9 by have := ok.2.1; omega)
        rw [hcl, Option.bind_some, show fX9_heatOf w 0 = _ from heatOf_eq (r := 0) (by omega) ok hm, Option.bind_some, show fX9_heatServed w 0 = _ from heatServed_eq (r := 0) (by omega) ok hm, Option.bind_some, all_eq, show rd w 1247 (13 + Int32.ofNat d) = some (w (13 + d)) from rdc (c := 13) (by omega), n2, Option.bind_some]
        by_cases c0 : cl A d = 0
        · rw [c0, if_pos (show Int32.ofNat 0 = 0 from rfl)]
          refine ⟨0, rfl, ?_⟩
          by_cases c : zH A d = 2
          · rw [if_pos (Eq.mpr g11 c)]
          · rw [if_neg (fun h => c (Eq.mp g11 h)), show rd w 1247 (31 + Int32.ofNat d) = some (w (31 + d)) from rdc (c := 31) (by omega), n5, Option.bind_some]
            have : zG A d = 0 := by unfold cl at c0; rw [if_neg c] at c0; exact c0
            rw [this, if_pos (show Int32.ofNat 0 = 0 from rfl)]
        · have nc0 : ¬ Int32.ofNat (cl A d) = 0 := one (c := 0) _ (by omega) (by omega) c0
          have c : ¬ zH A d = 2 := fun h => c0 (by unfold cl; rw [if_pos h])
          have hg : cl A d = zG A d := by unfold cl; rw [if_neg c]
          have hpos := sn_pos (f := cl A) hd
          have hlt := sn_le (f := cl A) (b := 60) (zN A) (fun k hk => cl_le ok hk)
          have hlt : sn (zN A) (cl A) < 2147483648 := by
            have : zN A * 60 ≤ 6 * 60 := Nat.mul_le_mul_right _ ok.1
            omega
          have nall : ¬ Int32.ofNat (sn (zN A) (cl A)) = 0 := one (c := 0) _ hlt (by omega) (by omega)
          have gn : gnz (Int32.ofNat (sn (zN A) (cl A))) = some () := by unfold gnz; rw [if_neg nall]
          rw [if_neg nc0, if_neg (fun h => c (Eq.mp g11 h)), show rd w 1247 (31 + Int32.ofNat d) = some (w (31 + d)) from rdc (c := 31) (by omega), n5, Option.bind_some, ← hg, if_neg nc0]
          have hsum : lp (fX0_share_b38 ln hv) FU (0, 0) = some (Int32.ofNat (sn (zN A) (cl A))) := by
            rw [← sm_sn]
            exact lp_cnt (b := fX0_share_b38 ln hv) (r := sm (zN A) (fun k => Int32.ofNat (cl A k))) (n := zN A) (FUlt (by omega)) (fun k => (sm k (fun k => Int32.ofNat (cl A k)), Int32.ofNat k)) (fun k hk => by
              unfold fX0_share_b38
              dsimp only
              rw [many_v hS, Option.bind_some, if_neg (nle (a := zN A) (b := k) (by omega) (by omega) hk), claim_eq ok hS hk, Option.bind_some, o1]
              rfl) (by
              unfold fX0_share_b38
              dsimp only
              rw [many_v hS, Option.bind_some, if_pos (yle (a := zN A) (b := zN A) (by omega) (by omega) (Nat.le_refl _))])
          rw [hsum, Option.bind_some]
          obtain ⟨r, r', x1, x2, x3⟩ := lp_sim (b := fX0_share_b74 ln hv (Int32.ofNat d) p2 (Int32.ofNat (sn (zN A) (cl A)))) (b' := fX9_share_b72 w (Int32.ofNat d) p2 (hal A) (hsv A)) (s := (p2, 0, 0)) (s' := (p2, 0, 0)) (fun (k : Nat) (s : Int32 × Int32 × Int32) (s' : Int32 × Int32 × Int32) => s = s' ∧ s.2.2 = Int32.ofNat k) (fun (r : Int32 × Int32) (r' : Int32 × Int32) => r = r') (zN A) (FUlt (by omega)) (fun k hk s s' hI => by
            obtain ⟨ov, ah, i⟩ := s
            obtain ⟨h1, h2⟩ := hI
            subst h1
            dsimp only at h2
            subst h2
            have e0 : rd w 1247 0 = some (Int32.ofNat (zN A)) := (r0n (c := 0) (by omega)).trans (by rw [show w 0 = _ from hm.1])
            by_cases hlt : k < zN A
            · left
              obtain ⟨b1, b2, b3, b4, b5, b6, b7, b8⟩ := ok.2.2.2.2 k hlt
              obtain ⟨n1, n2, n3, n4, n5, n6⟩ := hm.2.2.2.2.2.2.2 k hlt
              simp only [Nat.zero_add] at n1 n2 n3 n4 n5 n6
              have g11 := pos11 b2 (show zA A k < 9 by have := ok.2.1; omega)
              have hj : (if Int32.ofNat (pos (zH A k) (zA A k)) = 11 then some 0 else (some (Int32.ofNat (zG A k))).bind fun v14 => some v14 : Option Int32) = some (Int32.ofNat (cl A k)) := by
                by_cases c : zH A k = 2
                · rw [if_pos (Eq.mpr g11 c)]; simp [cl, c]
                · rw [if_neg (fun h => c (Eq.mp g11 h))]; simp [cl, c]
              have hb1 : fX0_share_b74 ln hv (Int32.ofNat d) p2 (Int32.ofNat (sn (zN A) (cl A))) (ov, ah, Int32.ofNat k) = if Int32.ofNat d ≤ Int32.ofNat k then some (.inl ((ov - ((p2 * Int32.ofNat (cl A k)) / Int32.ofNat (sn (zN A) (cl A)))), (ah + 0), Int32.ofNat (k + 1))) else if Int32.ofNat (cl A k) ≤ 0 then some (.inl ((ov - ((p2 * Int32.ofNat (cl A k)) / Int32.ofNat (sn (zN A) (cl A)))), (ah + 0), Int32.ofNat (k + 1))) else some (.inl ((ov - ((p2 * Int32.ofNat (cl A k)) / Int32.ofNat (sn (zN A) (cl A)))), (ah + 1), Int32.ofNat (k + 1))) := by
                unfold fX0_share_b74
                dsimp only
                rw [many_v hS, Option.bind_some, if_neg (nle (a := zN A) (b := k) (by omega) (by omega) hlt), claim_eq ok hS hlt, Option.bind_some, gn, Option.bind_some, Option.bind_some, o1]
              have hb2 : fX9_share_b72 w (Int32.ofNat d) p2 (hal A) (hsv A) (ov, ah, Int32.ofNat k) = if Int32.ofNat d ≤ Int32.ofNat k then some (.inl ((ov - ((p2 * Int32.ofNat (cl A k)) / Int32.ofNat (sn (zN A) (cl A)))), (ah + 0), Int32.ofNat (k + 1))) else if Int32.ofNat (cl A k) ≤ 0 then some (.inl ((ov - ((p2 * Int32.ofNat (cl A k)) / Int32.ofNat (sn (zN A) (cl A)))), (ah + 0), Int32.ofNat (k + 1))) else some (.inl ((ov - ((p2 * Int32.ofNat (cl A k)) / Int32.ofNat (sn (zN A) (cl A)))), (ah + 1), Int32.ofNat (k + 1))) := by
                unfold fX9_share_b72
                dsimp only
                rw [e0, Option.bind_some, if_neg (nle (a := zN A) (b := k) (by omega) (by omega) hlt), show rd w 1247 (13 + Int32.ofNat k) = some (w (13 + k)) from rdc (c := 13) (by omega), n2, Option.bind_some, show rd w 1247 (31 + Int32.ofNat k) = some (w (31 + k)) from rdc (c := 31) (by omega), n5, hj, Option.bind_some, all_eq, gn, Option.bind_some, o1]
              rw [hb1, hb2]
              by_cases z1 : Int32.ofNat d ≤ Int32.ofNat k
              · rw [if_pos z1]; exact ⟨hlt, _, _, rfl, rfl, rfl, rfl⟩
              · rw [if_neg z1]
                by_cases z2 : Int32.ofNat (cl A k) ≤ 0
                · rw [if_pos z2]; exact ⟨hlt, _, _, rfl, rfl, rfl, rfl⟩
                · rw [if_neg z2]; exact ⟨hlt, _, _, rfl, rfl, rfl, rfl⟩
            · right
              have : k = zN A := by omega
              subst this
              refine ⟨(ov, ah), (ov, ah), ?_, ?_, rfl⟩
              · unfold fX0_share_b74
                dsimp only
                rw [many_v hS, Option.bind_some, if_pos (yle (a := zN A) (b := zN A) (by omega) (by omega) (Nat.le_refl _))]
              · unfold fX9_share_b72
                dsimp only
                rw [e0, Option.bind_some, if_pos (yle (a := zN A) (b := zN A) (by omega) (by omega) (Nat.le_refl _))]) ⟨rfl, rfl⟩
          subst x3
          rw [x1, x2, Option.bind_some, Option.bind_some, gn]
          by_cases z : r.1 ≤ r.2
          · simp only [if_pos z, Option.bind_some]; exact ⟨_, rfl, rfl⟩
          · simp only [if_neg z, Option.bind_some]; exact ⟨_, rfl, rfl⟩
      · rw [if_neg c2, if_neg c2]; exact ⟨_, rfl, rfl⟩
    · rw [if_neg c1, if_neg c1]; exact ⟨_, rfl, rfl⟩
end A4
