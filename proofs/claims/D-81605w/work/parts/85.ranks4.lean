/-! THE PLAIN LAW 21: ranks -/
set_option maxRecDepth 100000
section RZ
variable {ln : Nat → Option Int32} {lf : Nat → Nat → Option Nat} {dk : Nat → Option Nat} {hv tv v : HV} {w w0 : Nat → Int32} {A B : AH}
theorem dec7 : ∀ n : Fin 7, Int32.ofNat n.val + (-1) ≤ Int32.ofNat n.val := by decide +kernel
theorem rk_sim (hL0 : LV ln lf dk hv w0 A) {m : Nat} (hm : m ≤ 40) : ∀ (f : Nat) (lS lM : List Int32), chk (zN A) f lS lM = true → ∀ (LI OR1 BE BO : Nat → Int32) (s t : Int32) (tv : HV) (w : Nat → Int32), E 6 LI (arr lS) → Ed (Int32.ofNat (zN A)) OR1 (arr lM) → Rb s t → (¬ s = (-1000000) → ∀ k, k < zN A → BE k = BO k) → FR w0 w 43 →
    ∃ ans LI2 BE2 tv2 w2 OR2 BO2 n1 n2, n1 ≤ f + 1 ∧ n2 ≤ 40 * f ∧ (∀ g, lp (fX0_ranks_b53 ln lf dk hv (Int32.ofNat m)) (g + n1) (s, 1, LI, BE, tv) = some (ans, LI2, BE2, tv2)) ∧ (∀ g, lp (fX9_bestRanks_b12 (Int32.ofNat m)) (g + n2) (t, Int32.ofNat (zN A), w, OR1, BO) = some (ans, w2, OR2, BO2)) ∧ FR w0 w2 43 ∧ ∀ k, k < zN A → BE2 k = BO2 k := by
  have hN := hL0.2.2.1.1
  have hN1 := hL0.2.2.2.1
  intro f
  induction f with
  | zero =>
    intro lS lM h
    exact (chk_zero h).elim
  | succ f ih =>
    intro lS lM h LI OR1 BE BO s t tv w hLI hOR hRb hBB hF
    obtain ⟨hok, q, hx, res, hr, hres1, hres2⟩ := chkC_inv (chk_succ h)
    have hL := hL0.try hF
    have hq : ∀ k, k < zN A → arr lS k = arr lM k ∧ 0 ≤ arr lS k ∧ arr lS k < Int32.ofNat (zN A) := fun k hk => by
      have := List.all_eq_true.mp hok k (List.mem_range.mpr hk)
      simp only [Bool.and_eq_true, decide_eq_true_eq, beq_iff_eq] at this
      exact ⟨this.1.1, this.1.2, this.2⟩
    obtain ⟨Q, hQ⟩ : ∃ Q : Nat → Nat, Q = fun k => (arr lS k).toNatClampNeg := ⟨_, rfl⟩
    have hQ1 : ∀ k, k < zN A → arr lS k = Int32.ofNat (Q k) ∧ Q k < zN A := fun k hk => by
      obtain ⟨_, a2, a3⟩ := hq k hk
      obtain ⟨n, e, hn1, -⟩ := i32_of (p := arr lS k) (by rw [le0_i] at a2; exact a2)
      have : Q k = n := by rw [hQ]; show (arr lS k).toNatClampNeg = n; rw [e]; exact tnc hn1
      rw [this, e]
      rw [e] at a3
      exact ⟨rfl, (olt (by omega) (by omega)).mp a3⟩
    have hLIQ : ∀ k, k < zN A → LI k = Int32.ofNat (Q k) ∧ Q k < zN A := fun k hk => ⟨(at_E (by omega) hLI (by omega)).trans (hQ1 k hk).1, (hQ1 k hk).2⟩
    have hORk : ∀ k, k < zN A → OR1 k = arr lM k := fun k hk => by
      have := hOR (Int32.ofNat k) (yle (by omega) (by omega) (by omega))
      rw [rdn (by omega) (by omega), rdn (by omega) (by omega)] at this
      exact Option.some.inj this
    have hORQ : ∀ k, k < zN A → OR1 k = Int32.ofNat (Q k) ∧ Q k < zN A := fun k hk => ⟨(hORk k hk).trans ((hq k hk).1.symm.trans (hQ1 k hk).1), (hQ1 k hk).2⟩
    have hagree : ∀ k, k < zN A → LI k = OR1 k := fun k hk => (hLIQ k hk).1.trans (hORQ k hk).1.symm
    obtain ⟨W, hW⟩ : ∃ W : Int32, W = wS (qA A Q) (m + 1) := ⟨_, rfl⟩
    have okq := hL.2.2.1.q (Q := Q) (fun k hk => (hQ1 k hk).2)
    obtain ⟨b, hb1, hb2⟩ := wS_nat okq (m + 1)
    rw [← hW] at hb1
    · have hxx := nx_E (q1 := Int32.ofNat (zN A)) hLI
      rw [hx] at hxx
      cases hy : nx (Int32.ofNat (zN A)) LI with
      | none => rw [hy] at hxx; exact hxx.elim
      | some q' =>
        rw [hy] at hxx
        obtain ⟨y1, y2⟩ : q'.1 = q.1 ∧ E 6 q'.2 q.2 := hxx
        obtain ⟨BE2, tv2, s1, s2, s3⟩ := leaf_s hL hm s 1 (by decide) LI BE tv hLIQ (fl2 := q'.1) (LI2 := q'.2) hy
        obtain ⟨BO2, w2, t1, t2, t3, t4⟩ := leaf_m hL hm t OR1 BO hORQ
        rw [← hW] at s1 s2 s3 t1 t3 t4
        -- the new bests are one number
        have hst : (if s = (-1000000) then W else if s ≤ W then s else W) = (if t ≤ W then t else W) ∧ (∃ b : Nat, b ≤ 300 ∧ (if t ≤ W then t else W) = Int32.ofNat b) ∧ ∀ k, k < zN A → BE2 k = BO2 k := by
          rcases hRb with ⟨r1, r2⟩ | ⟨r1, b', r2, r3⟩
          · have hbig : ¬ t ≤ W := by
              rw [r2, hb1]
              exact nle (a := 100000000) (b := b) (by omega) (by omega) (by omega)
            rw [if_pos r1, if_neg hbig]
            refine ⟨rfl, ⟨b, by omega, hb1⟩, fun k hk => ?_⟩
            rw [s3 (fun h => h.1 r1) k (by omega), t4 hbig k hk]
            exact hagree k hk
          · have hne : ¬ s = (-1000000) := by
              rw [r3]
              intro h
              have := congrArg Int32.toInt h
              rw [Int32.toInt_ofNat_of_lt (by omega)] at this
              have : (b' : Int) = -1000000 := this
              omega
            rw [if_neg hne, ← r1]
            refine ⟨rfl, ?_, fun k hk => ?_⟩
            · by_cases c : s ≤ W
              · rw [if_pos c]; exact ⟨b', r2, r3⟩
              · rw [if_neg c]; exact ⟨b, by omega, hb1⟩
            · by_cases c : s ≤ W
              · rw [s2 ⟨hne, c⟩, t3 (r1 ▸ c)]; exact hBB hne k hk
              · rw [s3 (fun h => c h.2) k (by omega), t4 (r1 ▸ c) k hk]; exact hagree k hk
        obtain ⟨e1, ⟨b2, e2, e3⟩, e4⟩ := hst
        rw [e1] at s1
        obtain ⟨T, hT⟩ : ∃ T : Int32, T = (if t ≤ W then t else W) := ⟨_, rfl⟩
        rw [← hT] at s1 t1 e3
        have hF2 := hF.trans t2
        have hw2 : w2 0 = Int32.ofNat (zN A) := by rw [hF2 0 (by omega)]; exact hL0.2.1.1
        have hEd : Ed (Int32.ofNat (zN A) + (-1)) OR1 (arr lM) := fun i hi => hOR i (Int32.le_trans hi (dec7 ⟨zN A, by omega⟩))
        · obtain ⟨n, hn, OR2, k1, k2⟩ := rn_sim hN (p1 := Int32.ofNat m) (best := T) (BO := BO2) hw2 30 _ _ OR1 res hr hEd
          cases res with
          | none =>
            have hz : q'.1 = 0 := y1.trans (hres1 rfl)
            refine ⟨T, q'.2, BE2, tv2, w2, OR2, BO2, 2, n + 2, by omega, by omega, fun g => ?_, fun g => ?_, hF2, e4⟩
            · rw [show g + 2 = (g + 1) + 1 from rfl, lp_one s1, hz]
              refine lp_end ?_ g
              unfold fX0_ranks_b53
              dsimp only
              rw [if_pos rfl]
            · rw [show g + (n + 2) = (g + n + 1) + 1 by omega, lp_one t1]
              exact k2 rfl g
          | some lM' =>
            obtain ⟨h1, h2⟩ := hres2 lM' rfl
            have hz : q'.1 = 1 := y1.trans h1
            obtain ⟨m1, m2⟩ := k1 lM' rfl
            obtain ⟨ans, LI3, BE3, tv3, w3, OR3, BO3, n1, n2, c1, c2, c3, c4, c5, c6⟩ := ih (tab 6 q.2) lM' h2 q'.2 OR2 BE2 BO2 T T tv2 w2 (y2.trans (E_at (fun k hk => (arr_tab hk).symm))) m2 (Or.inr ⟨rfl, b2, e2, e3⟩) (fun _ => e4) hF2
            refine ⟨ans, LI3, BE3, tv3, w3, OR3, BO3, n1 + 1, n2 + n + 1, by omega, by omega, fun g => ?_, fun g => ?_, c5, c6⟩
            · rw [show g + (n1 + 1) = (g + n1) + 1 by omega, lp_one s1, hz]
              exact c3 g
            · rw [show g + (n2 + n + 1) = ((g + n2) + n) + 1 by omega, lp_one t1, m1]
              exact c4 g
theorem chk_all {N : Nat} (h1 : 1 ≤ N) (h6 : N ≤ 6) : ∃ lM, rnM N 30 0 [-1, 0, 0, 0, 0, 0, 0] = some (some lM) ∧ chk N 720 [0, 1, 2, 3, 4, 5] lM = true := by
  have h : chk0 N = true := by
    rcases (show N = 1 ∨ N = 2 ∨ N = 3 ∨ N = 4 ∨ N = 5 ∨ N = 6 by omega) with rfl | rfl | rfl | rfl | rfl | rfl
    · exact chk_1
    · exact chk_2
    · exact chk_3
    · exact chk_4
    · exact chk_5
    · exact chk_6
  unfold chk0 at h
  split at h
  · next lM e => exact ⟨lM, e, h⟩
  · cases h
theorem ident (LI : Nat → Int32) : ∃ r, lp (fX0_ranks_b27) FU (0, LI) = some r ∧ ∀ k, k < 6 → r k = Int32.ofNat k := by
  refine lp_inv (fun (k : Nat) (s : Int32 × (Nat → Int32)) => s.1 = Int32.ofNat k ∧ ∀ j, j < k → s.2 j = Int32.ofNat j) _ 6 (FUlt (by omega)) (fun k hk s hI => ?_) ⟨rfl, fun j h => by omega⟩
  obtain ⟨i, z⟩ := s
  obtain ⟨i1, i2⟩ := hI
  dsimp only at i1 i2
  subst i1
  unfold fX0_ranks_b27
  dsimp only
  by_cases hlt : k < 6
  · left
    rw [if_neg (show ¬ (6 : Int32) ≤ Int32.ofNat k from nle (a := 6) (b := k) (by omega) (by omega) hlt), wrn hlt (by omega), Option.bind_some, o1]
    refine ⟨hlt, _, rfl, rfl, fun j hj => ?_⟩
    dsimp only
    by_cases e : j = k
    · subst e; rw [upd_same]
    · rw [upd_ne e]; exact i2 j (by omega)
  · right
    have : k = 6 := by omega
    subst this
    rw [if_pos (show (6 : Int32) ≤ Int32.ofNat 6 by decide)]
    exact ⟨_, rfl, i2⟩
theorem act_ranks (hT : TV ln lf dk hv w) (tv : HV) (LI BE OR1 BO : Nat → Int32) (p1 p2 : Int32) : ∃ ans LI' BE' tv' w' OR' BO', fX0_ranks ln lf dk hv tv LI BE p1 p2 = some (ans, LI', BE', tv') ∧ fX9_ranks w OR1 BO p1 p2 = some (ans, w', OR', BO') ∧ FR w w' 43 := by
  rcases hT with hE | ⟨A, hL⟩
  · obtain ⟨h1, h2⟩ := noHouse hE
    refine ⟨-1000002, LI, BE, tv, w, OR1, BO, ?_, ?_, fun i _ => rfl⟩
    · unfold fX0_ranks
      rw [h1, Option.bind_some, if_pos rfl]
    · unfold fX9_ranks
      rw [h2, Option.bind_some, if_pos rfl]
  · obtain ⟨h1, h2⟩ := yesHouse hL
    have hN := hL.2.2.1.1
    have hN1 := hL.2.2.2.1
    unfold fX0_ranks fX9_ranks
    rw [h1, h2, Option.bind_some, Option.bind_some, if_neg (show ¬ (1 : Int32) = 0 by decide), if_neg (show ¬ (1 : Int32) = 0 by decide), isNear_s, in40, Option.bind_some, Option.bind_some, g01, g01]
    by_cases c1 : 1 ≤ p1.toInt ∧ p1.toInt ≤ 40
    · rw [if_pos c1, if_pos c1]
      by_cases c2 : (-1) ≤ p2
      · rw [if_pos c2, if_pos c2]
        obtain ⟨m, rfl, hm1, hm2⟩ := i32_of (show 0 ≤ p1.toInt by omega)
        obtain ⟨r3, l1, l2⟩ := ident LI
        obtain ⟨lM, k1, k2⟩ := chk_all hN1 hN
        have hst : Ed 0 (upd OR1 0 (-1)) (arr [-1, 0, 0, 0, 0, 0, 0]) := fun i hi => by
          unfold rd
          by_cases c : i < 0 ∨ 7 ≤ i.toNatClampNeg
          · rw [if_pos c, if_pos c]
          · rw [if_neg c, if_neg c]
            have : i = 0 := by
              rcases Int32.lt_or_eq_of_le hi with h | h
              · exact absurd (Or.inl h) c
              · exact h
            subst this
            rfl
        obtain ⟨n, hn, OR2, q1, -⟩ := rn_sim hN (p1 := Int32.ofNat m) (best := 100000000) (BO := BO) (w := w) hL.2.1.1 30 0 _ (upd OR1 0 (-1)) (some lM) k1 hst
        obtain ⟨q2, q3⟩ := q1 lM rfl
        have hE0 : E 6 r3 (arr [0, 1, 2, 3, 4, 5]) := E_at (fun k hk => (l2 k hk).trans (by
          rcases (show k = 0 ∨ k = 1 ∨ k = 2 ∨ k = 3 ∨ k = 4 ∨ k = 5 by omega) with rfl | rfl | rfl | rfl | rfl | rfl <;> rfl))
        obtain ⟨ans, LI2, BE2, tv2, w2, OR3, BO2, n1, n2, b1, b2, b3, b4, b5, b6⟩ := rk_sim hL (m := m) (by omega) 720 _ _ k2 r3 OR2 BE BO (-1000000) 100000000 tv w hE0 q3 (Or.inl ⟨rfl, rfl⟩) (fun h => absurd rfl h) (fun i _ => rfl)
        obtain ⟨g1, e1⟩ : ∃ g, FU = g + n1 := ⟨FU - n1, by rw [FU_val]; omega⟩
        obtain ⟨g2, e2⟩ : ∃ g, FU = (g + n2) + n := ⟨FU - n2 - n, by rw [FU_val]; omega⟩
        have f1 := b3 g1
        rw [← e1] at f1
        have f2 := (q2 (g2 + n2)).trans (b4 g2)
        rw [← e2] at f2
        unfold fX9_bestRanks
        rw [l1, Option.bind_some, f1, Option.bind_some, show wr OR1 7 0 (-1) = some (upd OR1 0 (-1)) from wrn (k := 0) (by omega) (by omega), Option.bind_some, f2, Option.bind_some]
        dsimp only
        by_cases c3 : p2 = (-1)
        · rw [if_pos c3, Option.bind_some, if_neg (by rw [c3]; decide)]
          exact ⟨_, _, _, _, _, _, _, rfl, rfl, b5⟩
        · have hp0 : 0 ≤ p2.toInt := by
            have h3 : ((-1 : Int32)).toInt ≤ p2.toInt := Int32.le_iff_toInt_le.mp c2
            have h4 : p2.toInt ≠ (-1 : Int32).toInt := fun h => c3 (Int32.toInt_inj.mp h)
            have h5 : (-1 : Int32).toInt = -1 := rfl
            omega
          have hp0' : 0 ≤ p2 := by rw [le0_i]; exact hp0
          have e0 : rd w2 1247 0 = some (Int32.ofNat (zN A)) := (r0n (c := 0) (by omega)).trans (by rw [b5 0 (by omega), show w 0 = _ from hL.2.1.1])
          obtain ⟨d, rfl, hd1, hd2⟩ := i32_of hp0
          rw [if_neg c3, Option.bind_some, if_pos hp0', e0, Option.bind_some, isDish_s hL.1.1 (by omega), Option.bind_some, g01]
          by_cases c4 : d < zN A
          · rw [if_pos (by omega), if_neg (nle (a := zN A) (b := d) (by omega) (by omega) c4), rdn (k := d) (by omega) (by omega), rdn (k := d) (by omega) (by omega), b6 d c4]
            exact ⟨_, _, _, _, _, _, _, rfl, rfl, b5⟩
          · rw [if_neg (by omega), if_pos (yle (a := zN A) (b := d) (by omega) (by omega) (by omega))]
            exact ⟨_, _, _, _, _, _, _, rfl, rfl, b5⟩
      · rw [if_neg c2, if_neg c2]; exact ⟨_, _, _, _, _, _, _, rfl, rfl, fun i _ => rfl⟩
    · rw [if_neg c1, if_neg c1]; exact ⟨_, _, _, _, _, _, _, rfl, rfl, fun i _ => rfl⟩
end RZ
