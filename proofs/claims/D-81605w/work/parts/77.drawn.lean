/-! THE PLAIN LAW 13: drawn -/
set_option maxRecDepth 100000
theorem bsdiff6 : ∀ b0 b1 b2 b3 b4 b5 c0 c1 c2 c3 c4 c5 : Bool, bs 6 (pl b0 b1 b2 b3 b4 b5) &&& (bs 6 (pl c0 c1 c2 c3 c4 c5) ^^^ (-1)) = bs 6 (fun k => pl b0 b1 b2 b3 b4 b5 k && !pl c0 c1 c2 c3 c4 c5 k) := by decide +kernel
theorem bsdiff {n : Nat} (hn : n ≤ 6) (p q : Nat → Bool) : bs n p &&& (bs n q ^^^ (-1)) = bs n (fun k => p k && !q k) := by
  obtain ⟨m, hm⟩ : ∃ m, n + m = 6 := ⟨6 - n, by omega⟩
  have e1 := bs_pad (p := p) (n := n) m
  have e2 := bs_pad (p := q) (n := n) m
  have e3 := bs_pad (p := fun k => p k && !q k) (n := n) m
  rw [hm] at e1 e2 e3
  rw [← e1, ← e2, ← e3]
  have h := bsdiff6 (decide (0 < n) && p 0) (decide (1 < n) && p 1) (decide (2 < n) && p 2) (decide (3 < n) && p 3) (decide (4 < n) && p 4) (decide (5 < n) && p 5) (decide (0 < n) && q 0) (decide (1 < n) && q 1) (decide (2 < n) && q 2) (decide (3 < n) && q 3) (decide (4 < n) && q 4) (decide (5 < n) && q 5)
  rw [bs_congr (n := 6) (p := fun k => decide (k < n) && p k) (q := pl (decide (0 < n) && p 0) (decide (1 < n) && p 1) (decide (2 < n) && p 2) (decide (3 < n) && p 3) (decide (4 < n) && p 4) (decide (5 < n) && p 5)) (fun k hk => pl_eq (p := fun k => decide (k < n) && p k) k hk), bs_congr (n := 6) (p := fun k => decide (k < n) && q k) (q := pl (decide (0 < n) && q 0) (decide (1 < n) && q 1) (decide (2 < n) && q 2) (decide (3 < n) && q 3) (decide (4 < n) && q 4) (decide (5 < n) && q 5)) (fun k hk => pl_eq (p := fun k => decide (k < n) && q k) k hk), h]
  refine bs_congr (fun k hk => ?_)
  rw [← pl_eq (p := fun k => decide (k < n) && p k) k hk, ← pl_eq (p := fun k => decide (k < n) && q k) k hk]
  by_cases hk2 : k < n
  · simp [hk2]
  · simp [hk2]
theorem l_i32 {a : Nat} (ha : a < 2 ^ 31) : (Int64.ofNat a).toInt32 = Int32.ofNat a := by
  rw [← Int32.toInt_inj, Int64.toInt_toInt32, Int64.toInt_ofNat_of_lt (by omega), Int32.toInt_ofNat_of_lt ha]
  show Int.bmod (a : Int) (2 ^ 32) = a
  rw [Int.bmod_def]
  split <;> omega
theorem w_l9 : ∀ e : Fin 10, (Int32.ofNat e.val).toInt64 = Int64.ofNat e.val := by decide +kernel
theorem l_gnz {n : Nat} (h1 : 1 ≤ n) (h2 : n < 10) : gnzL (Int64.ofNat n) = some () := by
  unfold gnzL
  rw [if_neg (fun h => by have := Eq.mp (l_eq0 (by omega)) h; omega)]
def rx (x : Nat) : Nat := x * 16807 % 2147483647
theorem rx_lt (x : Nat) : rx x < 2147483647 := Nat.mod_lt _ (by decide)
theorem rx_eq {x : Nat} (h : x < 2147483647) : Int64.ofNat x * 16807 - Int64.ofNat x * 16807 / 2147483647 * 2147483647 = Int64.ofNat (rx x) := by
  rw [show (16807 : Int64) = Int64.ofNat 16807 from rfl, show (2147483647 : Int64) = Int64.ofNat 2147483647 from rfl, ← Int64.ofNat_mul, l_md (by omega) (by omega)]
  rfl
theorem rmod {y n : Nat} (h : y < 2147483647) (hn : n < 2147483647) : (Int64.ofNat y - Int64.ofNat y / Int64.ofNat n * Int64.ofNat n) = Int64.ofNat (y % n) := l_md (by omega) (by omega)
section DR
variable {ln : Nat → Option Int32} {lf : Nat → Nat → Option Nat} {dk : Nat → Option Nat} {hv tv v : HV} {w : Nat → Int32} {A : AH}
theorem drawn_step (hS : SR ln lf dk v A) (hm : MR w 43 A) (ok : OK A) (hw0 : w 0 = Int32.ofNat (zN A)) (hw1 : w 1 = Int32.ofNat (zF A)) (hN1 : 1 ≤ zN A) (hM : zM A < 1000000) (p1 : Int32) {n k x : Nat} (e1 : p1 = Int32.ofNat n) (hn : n ≤ 60) (hk : k < n) (hx : x < 2147483647) (c : Int32) :
    ∃ c' B v' w', fX0_drawn_b54 ln lf dk p1 (Int64.ofNat x, c, Int32.ofNat k, v) = some (.inl (Int64.ofNat (rx x), c', Int32.ofNat (k + 1), v')) ∧ fX9_drawn_b61 p1 (Int64.ofNat x, c, Int32.ofNat k, w) = some (.inl (Int64.ofNat (rx x), c', Int32.ofNat (k + 1), w')) ∧ zN B = zN A ∧ zF B = zF A ∧ zM B = zM A + 1 ∧ OK B ∧ SR ln lf dk v' B ∧ MR w' 43 B ∧ FR w w' 43 := by
  subst e1
  have hN := ok.1
  have hF := ok.2.1
  have hF1 : 1 ≤ zF A := by have := ok.2.2.1; omega
  have wN := w_l9 ⟨zN A, by omega⟩
  have wF := w_l9 ⟨zF A, by omega⟩
  dsimp only at wN wF
  have hr := rx_lt x
  have hd : rx x % zN A < zN A := Nat.mod_lt _ hN1
  have hf : rx x % zF A < zF A := Nat.mod_lt _ hF1
  have hg : rx x % 61 ≤ 60 := by have := Nat.mod_lt (rx x) (show 0 < 61 by decide); omega
  have d6 : rx x % zN A < 6 := by omega
  -- what stands after the draw
  have mid : ∃ B v1 w1, (if Int32.ofNat (zH A (rx x % zN A)) = 2 then (gX1_send v (Int32.ofNat (rx x % zN A)) (Int32.ofNat (rx x % zF A)) (Int32.ofNat (rx x % 61))).bind fun q17 => some q17 else if Int64.ofNat (rx x % 4) = 0 then (some (Sca v (Int32.ofNat (rx x % zF A)))).bind fun b18 => some b18 else some v) = some v1 ∧
      (if Int32.ofNat (pos (zH A (rx x % zN A)) (zA A (rx x % zN A))) = 11 then (fX9_sendsBack w 43 (Int32.ofNat (rx x % zN A)) (Int32.ofNat (rx x % zF A)) (Int32.ofNat (rx x % 61))).bind fun q18 => some q18 else if Int64.ofNat (rx x % 4) = 0 then (wr w 1247 47 (Int32.ofNat (rx x % zF A))).bind fun w19 => some w19 else some w) = some w1 ∧
      zN B = zN A ∧ zF B = zF A ∧ zM B = zM A ∧ OK B ∧ SR ln lf dk v1 B ∧ MR w1 43 B ∧ FR w w1 43 := by
    have hg2 : (Int32.ofNat (zH A (rx x % zN A)) = 2) = (zH A (rx x % zN A) = 2) := q_eq (c := 2) (by have := (ok.2.2.2.2 _ hd).2.1; omega) (by omega)
    by_cases c1 : zH A (rx x % zN A) = 2
    · obtain ⟨v1, a1, a2, -⟩ := send_eq (f := rx x % zF A) (g := rx x % 61) ok hS hd
      obtain ⟨w1, b1, b2, b3⟩ := sendsBack_eq (r := 43) (f := rx x % zF A) (g := rx x % 61) (by omega) ok hm hd
      rw [if_pos (Eq.mpr hg2 c1), if_pos (Eq.mpr (pos11b ok hd) c1), a1, show fX9_sendsBack w 43 _ _ _ = some w1 from b1]
      exact ⟨sdA A (rx x % zN A) (rx x % zF A) (rx x % 61), _, _, rfl, rfl, rfl, rfl, rfl, ok.sd hd hf hg, a2, b2, b3⟩
    · rw [if_neg (fun h => c1 (Eq.mp hg2 h)), if_neg (fun h => c1 (Eq.mp (pos11b ok hd) h))]
      by_cases c2 : rx x % 4 = 0
      · have h4 : Int64.ofNat (rx x % 4) = 0 := Eq.mpr (l_eq0 (by omega)) c2
        rw [if_pos h4, if_pos h4, show wr w 1247 47 (Int32.ofNat (rx x % zF A)) = _ from wrn (k := 47) (by omega) (by omega)]
        exact ⟨caA A (rx x % zF A), _, _, rfl, rfl, rfl, rfl, rfl, ok.ca hf, hS.ca _, hm.ca hN _, FR.upd1 (c := 4) (r := 43) (fun i _ => rfl) (by omega)⟩
      · have h4 : ¬ Int64.ofNat (rx x % 4) = 0 := fun h => c2 (Eq.mp (l_eq0 (by omega)) h)
        rw [if_neg h4, if_neg h4]
        exact ⟨A, _, _, rfl, rfl, rfl, rfl, rfl, ok, hS, hm, fun i _ => rfl⟩
  obtain ⟨B, v1, w1, m1, m2, m3, m3', m4, m5, m6, m7, m8⟩ := mid
  obtain ⟨v2, g1, g2, -⟩ := pass_eq m5 (by omega) m6
  obtain ⟨w2, f1, f2, f3⟩ := passes_eq (r := 43) (by omega) m5 (by omega) m7
  have hnB : zN B ≤ 6 := m5.1
  have hcnt : svb (pa B) &&& (svb B ^^^ (-1)) = bs (zN B) (fun k => (zH (pa B) k == 2) && !(zH B k == 2)) := by
    unfold svb
    rw [pa_N]
    exact bsdiff hnB _ _
  have s1 : fX9_servedOf w1 43 = some (svb B) := servedOf_v (r := 43) (by omega) m5 m7
  have s2 : fX9_servedOf w2 43 = some (svb (pa B)) := servedOf_v (r := 43) (by omega) m5.pa f2
  refine ⟨c + Int32.ofNat (cn (zN B) (fun k => (zH (pa B) k == 2) && !(zH B k == 2))), pa B, v2, w2, ?_, ?_, (pa_N B).trans m3, (pa_F B).trans m3', by rw [pa_M]; omega, m5.pa, g2, f2, m8.trans f3⟩
  · unfold fX0_drawn_b54
    dsimp only
    rw [if_neg (nle (a := n) (b := k) (by omega) (by omega) hk), many_v hS, Option.bind_some, hS.2.1, wN, wF, l_gnz hN1 (by omega), l_gnz hF1 (by omega), Option.bind_some, Option.bind_some, rx_eq hx, show (61 : Int64) = Int64.ofNat 61 from rfl, show (4 : Int64) = Int64.ofNat 4 from rfl, rmod hr (show zN A < 2147483647 by omega), rmod hr (show zF A < 2147483647 by omega), rmod hr (show 61 < 2147483647 by omega), rmod hr (show 4 < 2147483647 by omega), l_i32 (by omega), l_i32 (by omega), l_i32 (by omega), rdn d6 (by omega), (hS.2.2.2.2.2.2.2 _ hd).1, Option.bind_some, m1, Option.bind_some, areSo2 m5 m6, Option.bind_some, g1, Option.bind_some, areSo2 m5.pa g2, Option.bind_some, hcnt, bits_bs hnB, Option.bind_some, o1]
  · unfold fX9_drawn_b61
    dsimp only
    rw [if_neg (nle (a := n) (b := k) (by omega) (by omega) hk), show rd w 1247 0 = some (w 0) from r0n (c := 0) (by omega), hw0, Option.bind_some, wN, l_gnz hN1 (by omega), Option.bind_some, show rd w 1247 1 = some (w 1) from r0n (c := 1) (by omega), hw1, Option.bind_some, wF, l_gnz hF1 (by omega), Option.bind_some, rx_eq hx, show (61 : Int64) = Int64.ofNat 61 from rfl, show (4 : Int64) = Int64.ofNat 4 from rfl, rmod hr (show zN A < 2147483647 by omega), rmod hr (show zF A < 2147483647 by omega), rmod hr (show 61 < 2147483647 by omega), rmod hr (show 4 < 2147483647 by omega), l_i32 (show rx x % zN A < 2 ^ 31 by omega), l_i32 (show rx x % zF A < 2 ^ 31 by omega), l_i32 (show rx x % 61 < 2 ^ 31 by omega), show rd w 1247 (56 + Int32.ofNat (rx x % zN A)) = some (w (56 + rx x % zN A)) from rdc (c := 56) (by omega), show w (56 + rx x % zN A) = _ from mAT hm hd, Option.bind_some, m2, Option.bind_some, s1, Option.bind_some, show fX9_passes w1 43 = some w2 from f1, Option.bind_some, s2, Option.bind_some, hcnt, ones_bs hnB, Option.bind_some, o1]
theorem act_drawn (hT : TV ln lf dk hv w) (tv : HV) (p1 p2 p3 : Int32) : ∃ ans tv' w', fX0_drawn ln lf dk hv tv p1 p2 p3 = some (ans, tv') ∧ fX9_drawn w p1 p2 p3 = some (ans, w') ∧ FR w w' 43 := by
  rcases hT with hE | ⟨A, hL⟩
  · obtain ⟨h1, h2⟩ := noHouse hE
    refine ⟨-1000002, tv, w, ?_, ?_, fun i _ => rfl⟩
    · unfold fX0_drawn
      rw [h1, Option.bind_some, if_pos rfl]
    · unfold fX9_drawn
      rw [h2, Option.bind_some, if_pos rfl]
  · obtain ⟨h1, h2⟩ := yesHouse hL
    have hL' := hL
    obtain ⟨hS, hm, ok, hN1, hM, hn⟩ := hL
    have e2 : fX0_isIn p2.toInt64 1 999999 = some (if 1 ≤ p2.toInt ∧ p2.toInt ≤ 999999 then 1 else 0) := inl_eq p2 1 999999 (by omega) (by omega)
    unfold fX0_drawn fX9_drawn
    rw [h1, h2, Option.bind_some, Option.bind_some, if_neg (show ¬ (1 : Int32) = 0 by decide), if_neg (show ¬ (1 : Int32) = 0 by decide), isFar_s, in60, Option.bind_some, Option.bind_some, g01, g01]
    by_cases c2 : 0 ≤ p1.toInt ∧ p1.toInt ≤ 60
    · rw [if_pos c2, if_pos c2, in_same, e2, Option.bind_some, Option.bind_some, g01, g01]
      by_cases c3 : 1 ≤ p2.toInt ∧ p2.toInt ≤ 999999
      · rw [if_pos c3, if_pos c3, isHalf_s, in01, Option.bind_some, Option.bind_some, g01, g01]
        by_cases c4 : 0 ≤ p3.toInt ∧ p3.toInt ≤ 1
        · rw [if_pos c4, if_pos c4]
          obtain ⟨n, e1', hn1, hn2⟩ := i32_of c2.1
          obtain ⟨x, e2', hx1, hx2⟩ := i32_of (show 0 ≤ p2.toInt by omega)
          obtain ⟨v1, t1, t2, t3⟩ := tried_eq hL' tv
          obtain ⟨w1, u1, u2, u3, u4⟩ := tries_eq ok.1 hm
          have hx64 : p2.toInt64 = Int64.ofNat x := by
            rw [← Int64.toInt_inj, Int32.toInt_toInt64, hx2, Int64.toInt_ofNat_of_lt (by omega)]
          obtain ⟨r, r', g1, g2, g3, B, g4, g5, g6, g7⟩ := lp_sim (b := fX0_drawn_b54 ln lf dk p1) (b' := fX9_drawn_b61 p1) (s := (p2.toInt64, 0, 0, v1)) (s' := (p2.toInt64, 0, 0, w1))
            (fun (k : Nat) (s : Int64 × Int32 × Int32 × HV) (s' : Int64 × Int32 × Int32 × (Nat → Int32)) => ∃ (x : Nat) (B : AH), s.1 = Int64.ofNat x ∧ s'.1 = Int64.ofNat x ∧ x < 2147483647 ∧ s'.2.1 = s.2.1 ∧ s.2.2.1 = Int32.ofNat k ∧ s'.2.2.1 = Int32.ofNat k ∧ zN B = zN A ∧ zF B = zF A ∧ zM B = zM A + k ∧ OK B ∧ SR ln lf dk s.2.2.2 B ∧ MR s'.2.2.2 43 B ∧ FR w s'.2.2.2 43)
            (fun (t : Int32 × HV) (t' : Int32 × (Nat → Int32)) => t.1 = t'.1 ∧ ∃ B, OK B ∧ SR ln lf dk t.2 B ∧ MR t'.2 43 B ∧ FR w t'.2 43) n (FUlt (by omega)) (fun k hk s s' hI => by
              obtain ⟨y, B, i1, i2, i3, i4, i5, i6, i7, i7', i8, i9, i10, i11, i12⟩ := hI
              obtain ⟨a, c, i, z⟩ := s
              obtain ⟨a', c', i', z'⟩ := s'
              dsimp only at i1 i2 i4 i5 i6 i10 i11 i12
              subst i1; subst i2; subst i4; subst i5; subst i6
              by_cases hlt : k < n
              · left
                obtain ⟨c2, C, v2, w2, j1, j2, j3, j3', j4, j5, j6, j7, j8⟩ := drawn_step i10 i11 i9 ((i12 0 (by omega)).trans (hm.1.trans (by rw [i7]))) ((i12 1 (by omega)).trans (hm.2.1.trans (by rw [i7']))) (by omega) (by omega) p1 e1' (by omega) hlt i3 c'
                exact ⟨hlt, _, _, j1, j2, _, C, rfl, rfl, rx_lt _, rfl, rfl, rfl, j3.trans i7, j3'.trans i7', by omega, j5, j6, j7, i12.trans j8⟩
              · right
                have : k = n := by omega
                subst this
                unfold fX0_drawn_b54 fX9_drawn_b61
                dsimp only
                rw [e1', if_pos (yle (a := k) (b := k) (by omega) (by omega) (Nat.le_refl _)), if_pos (yle (a := k) (b := k) (by omega) (by omega) (Nat.le_refl _))]
                exact ⟨_, _, rfl, rfl, rfl, B, i9, i10, i11, i12⟩) ⟨x, A, hx64, hx64, by omega, rfl, rfl, rfl, rfl, rfl, rfl, ok, t2, u2, u4⟩
          obtain ⟨t, z⟩ := r
          obtain ⟨t', z'⟩ := r'
          dsimp only at g3 g5 g6 g7
          subst g3
          rw [t1, u1, Option.bind_some, Option.bind_some, g1, g2, Option.bind_some, Option.bind_some]
          dsimp only
          rcases p01 c4 with q | q
          · rw [if_pos q, if_pos q]
            exact ⟨_, _, _, rfl, rfl, g7⟩
          · rw [if_neg (show ¬ p3 = 0 by rw [q]; decide), if_neg (show ¬ p3 = 0 by rw [q]; decide), heats0_eq g4 g5, show fX9_heatOf z' 43 = _ from heatOf_eq (r := 43) (by omega) g4 g6]
            exact ⟨_, _, _, rfl, rfl, g7⟩
        · rw [if_neg c4, if_neg c4]; exact ⟨_, _, _, rfl, rfl, fun i _ => rfl⟩
      · rw [if_neg c3, if_neg c3]; exact ⟨_, _, _, rfl, rfl, fun i _ => rfl⟩
    · rw [if_neg c2, if_neg c2]; exact ⟨_, _, _, rfl, rfl, fun i _ => rfl⟩
end DR
