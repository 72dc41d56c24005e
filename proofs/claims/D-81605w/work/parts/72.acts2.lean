/-! THE PLAIN LAW 8: when, done, site, need -/
set_option maxRecDepth 100000
theorem sv_one6 : ∀ b0 b1 b2 b3 b4 b5 : Bool, ∀ k : Fin 6, decide ((bs 6 (pl b0 b1 b2 b3 b4 b5) &&& ((1 : Int32) <<< (Int32.ofNat k.val &&& 31))) = ((1 : Int32) <<< (Int32.ofNat k.val &&& 31))) = pl b0 b1 b2 b3 b4 b5 k.val := by decide +kernel
theorem sv_one {n : Nat} (hn : n ≤ 6) (p : Nat → Bool) {k : Nat} (hk : k < n) : ((bs n p &&& ((1 : Int32) <<< (Int32.ofNat k &&& 31))) = ((1 : Int32) <<< (Int32.ofNat k &&& 31))) = (p k = true) := by
  obtain ⟨m, hm⟩ : ∃ m, n + m = 6 := ⟨6 - n, by omega⟩
  have e1 := bs_pad (p := p) (n := n) m
  rw [hm] at e1
  rw [← e1]
  have e3 : p k = (fun k => decide (k < n) && p k) k := by simp [hk]
  rw [e3]
  generalize (fun k => decide (k < n) && p k) = q
  have h6 : k < 6 := by omega
  have h := sv_one6 (q 0) (q 1) (q 2) (q 3) (q 4) (q 5) ⟨k, h6⟩
  dsimp only at h
  rw [← pl_eq (p := q) k h6, bs_congr (p := pl (q 0) (q 1) (q 2) (q 3) (q 4) (q 5)) (q := q) (fun k hk => (pl_eq k hk).symm)] at h
  rw [← h]
  exact propext (by simp)
theorem sv_all6 : ∀ b0 b1 b2 b3 b4 b5 : Bool, ∀ k : Fin 7, decide ((bs k.val (pl b0 b1 b2 b3 b4 b5) &&& (((1 : Int32) <<< (Int32.ofNat k.val &&& 31)) - 1)) = (((1 : Int32) <<< (Int32.ofNat k.val &&& 31)) - 1)) = decide (bs k.val (pl b0 b1 b2 b3 b4 b5) = (((1 : Int32) <<< (Int32.ofNat k.val &&& 31)) - 1)) := by decide +kernel
theorem sv_all {n : Nat} (hn : n ≤ 6) (p : Nat → Bool) : ((bs n p &&& (((1 : Int32) <<< (Int32.ofNat n &&& 31)) - 1)) = (((1 : Int32) <<< (Int32.ofNat n &&& 31)) - 1)) = (bs n p = (((1 : Int32) <<< (Int32.ofNat n &&& 31)) - 1)) := by
  have h := sv_all6 (p 0) (p 1) (p 2) (p 3) (p 4) (p 5) ⟨n, by omega⟩
  dsimp only at h
  rw [bs_congr (p := pl (p 0) (p 1) (p 2) (p 3) (p 4) (p 5)) (q := p) (n := n) (fun k hk => (pl_eq k (by omega)).symm)] at h
  exact propext (by simpa using h)
section A2
variable {ln : Nat → Option Int32} {lf : Nat → Nat → Option Nat} {dk : Nat → Option Nat} {hv tv v : HV} {w : Nat → Int32} {A : AH}
/-- two trials in step: when a dish is served -/
theorem act_when (hT : TV ln lf dk hv w) (tv : HV) (p1 : Int32) : ∃ ans tv' w', fX0_when ln lf dk hv tv p1 = some (ans, tv') ∧ fX9_when w p1 = some (ans, w') ∧ FR w w' 43 := by
  rcases hT with hE | ⟨A, hL⟩
  · refine ⟨-1000001, tv, w, ?_, ?_, fun i _ => rfl⟩
    · unfold fX0_when
      rw [isDish_s hE.1 (by omega), Option.bind_some, g01, if_neg (by omega)]
    · unfold fX9_when
      rw [isDish_m hE.2.2.2.1 (by omega), Option.bind_some, g01, if_neg (by omega)]
  · have hL' := hL
    obtain ⟨hS, hm, ok, hN1, hM, hn⟩ := hL
    have hN6 := ok.1
    have hD := isDish_s hS.1 (by omega) p1
    have hD' := isDish_m (w := w) (by rw [← hm.1]) (show zN A < 10 by omega) p1
    unfold fX0_when fX9_when
    rw [hD, hD', Option.bind_some, Option.bind_some, g01, g01]
    by_cases c1 : 0 ≤ p1.toInt ∧ p1.toInt < zN A
    · rw [if_pos c1, if_pos c1]
      obtain ⟨d, rfl, hd1, hd2⟩ := i32_of c1.1
      have hd : d < zN A := by omega
      have d6 : d < 6 := by omega
      obtain ⟨v1, t1, t2, t3⟩ := tried_eq hL' tv
      obtain ⟨w1, u1, u2, u3, u4⟩ := tries_eq ok.1 hm
      obtain ⟨r, r', x1, x2, x3⟩ := lp_sim (b := fX0_when_b18 ln lf dk (Int32.ofNat d)) (b' := fX9_allServed_b6 ((1 : Int32) <<< (Int32.ofNat d &&& 31))) (s := (0, v1)) (s' := (0, w1)) (fun (k : Nat) (s : Int32 × HV) (s' : Int32 × (Nat → Int32)) => s.1 = Int32.ofNat k ∧ s'.1 = Int32.ofNat k ∧ SR ln lf dk s.2 (pan k A) ∧ MR s'.2 43 (pan k A) ∧ FR w s'.2 43) (fun (r : Int32 × HV) (r' : Int32 × (Nat → Int32)) => r.1 = r'.1 ∧ FR w r'.2 43) 61 (FUlt (by omega)) (fun k hk s s' hI => by
        obtain ⟨i, u⟩ := s
        obtain ⟨i', x⟩ := s'
        obtain ⟨h1, h2, h3, h4, h5⟩ := hI
        dsimp only at h1 h2 h3 h4 h5
        subst h1; subst h2
        by_cases hlt : k < 61
        · have okk := ok.pan k
          have hdk : d < zN (pan k A) := by rw [pan_N]; exact hd
          have hs := served_eq (h := zH (pan k A)) (a := zA (pan k A)) (r := 43) (by omega) h4.1 okk.1 (fun k hk => (h4.2.2.2.2.2.2.2 k hk).2.1) (fun k hk => (okk.2.2.2.2 k hk).2.1) (fun j hj => by have := (okk.2.2.2.2 j hj).2.2.1; have := okk.2.1; omega)
          have hb2 := (okk.2.2.2.2 d hdk).2.1
          have g2 : (Int32.ofNat (zH (pan k A) d) = 2) = (zH (pan k A) d = 2) := q_eq (c := 2) (by omega) (by omega)
          have g3 := sv_one okk.1 (fun j => zH (pan k A) j == 2) hdk
          have n60 : ¬ (60 : Int32) < Int32.ofNat k := fun q => by
            have := (olt (a := 60) (b := k) (by omega) (by omega)).mp q
            omega
          by_cases c : zH (pan k A) d = 2
          · right
            refine ⟨(Int32.ofNat k, u), (Int32.ofNat k, x), ?_, ?_, rfl, h5⟩
            · unfold fX0_when_b18
              dsimp only
              rw [if_neg n60, rdn d6 (by omega), (h3.2.2.2.2.2.2.2 d hdk).1, Option.bind_some, if_pos (Eq.mpr g2 c)]
            · unfold fX9_allServed_b6
              dsimp only
              rw [if_neg n60, show fX9_servedOf x 43 = _ from hs, Option.bind_some, if_pos (Eq.mpr g3 (by simp [c]))]
          · left
            obtain ⟨u', y1, y2, -⟩ := pass_eq okk (by rw [pan_M]; omega) h3
            obtain ⟨x', z1, z2, z3⟩ := passes_eq (r := 43) (by omega) okk (by rw [pan_M]; omega) h4
            refine ⟨hlt, (Int32.ofNat (k + 1), u'), (Int32.ofNat (k + 1), x'), ?_, ?_, rfl, rfl, y2, z2, h5.trans z3⟩
            · unfold fX0_when_b18
              dsimp only
              rw [if_neg n60, rdn d6 (by omega), (h3.2.2.2.2.2.2.2 d hdk).1, Option.bind_some, if_neg (fun h => c (Eq.mp g2 h)), y1, Option.bind_some, o1]
            · unfold fX9_allServed_b6
              dsimp only
              rw [if_neg n60, show fX9_servedOf x 43 = _ from hs, Option.bind_some, if_neg (fun h => c (by simpa using Eq.mp g3 h)), show fX9_passes x 43 = _ from z1, Option.bind_some, o1]
        · right
          have : k = 61 := by omega
          subst this
          have y60 : (60 : Int32) < Int32.ofNat 61 := by decide
          refine ⟨(-1000000, u), (-1000000, x), ?_, ?_, rfl, h5⟩
          · unfold fX0_when_b18
            dsimp only
            rw [if_pos y60]
          · unfold fX9_allServed_b6
            dsimp only
            rw [if_pos y60]) ⟨rfl, rfl, t2, u2, u4⟩
      refine ⟨r.1, r.2, r'.2, ?_, ?_, x3.2⟩
      · rw [t1, Option.bind_some, x1]
      · unfold fX9_allServed
        rw [u1, Option.bind_some, x2, Option.bind_some, x3.1]
    · rw [if_neg c1, if_neg c1]; exact ⟨_, _, _, rfl, rfl, fun i _ => rfl⟩
theorem act_done (hT : TV ln lf dk hv w) (tv : HV) : ∃ ans tv' w', fX0_done ln lf dk hv tv = some (ans, tv') ∧ fX9_done w = some (ans, w') ∧ FR w w' 43 := by
  rcases hT with hE | ⟨A, hL⟩
  · obtain ⟨h1, h2⟩ := noHouse hE
    refine ⟨-1000002, tv, w, ?_, ?_, fun i _ => rfl⟩
    · unfold fX0_done
      rw [h1, Option.bind_some, if_pos rfl]
    · unfold fX9_done
      rw [h2, Option.bind_some, if_pos rfl]
  · obtain ⟨h1, h2⟩ := yesHouse hL
    have hL' := hL
    obtain ⟨hS, hm, ok, hN1, hM, hn⟩ := hL
    have hN6 := ok.1
    obtain ⟨v1, t1, t2, t3⟩ := tried_eq hL' tv
    obtain ⟨w1, u1, u2, u3, u4⟩ := tries_eq ok.1 hm
    obtain ⟨r, r', x1, x2, x3⟩ := lp_sim (b := fX0_done_b17 ln lf dk) (b' := fX9_allServed_b6 (((1 : Int32) <<< (Int32.ofNat (zN A) &&& 31)) - 1)) (s := (0, v1)) (s' := (0, w1)) (fun (k : Nat) (s : Int32 × HV) (s' : Int32 × (Nat → Int32)) => s.1 = Int32.ofNat k ∧ s'.1 = Int32.ofNat k ∧ SR ln lf dk s.2 (pan k A) ∧ MR s'.2 43 (pan k A) ∧ FR w s'.2 43) (fun (r : Int32 × HV) (r' : Int32 × (Nat → Int32)) => r.1 = r'.1 ∧ FR w r'.2 43) 61 (FUlt (by omega)) (fun k hk s s' hI => by
        obtain ⟨i, u⟩ := s
        obtain ⟨i', x⟩ := s'
        obtain ⟨h1, h2, h3, h4, h5⟩ := hI
        dsimp only at h1 h2 h3 h4 h5
        subst h1; subst h2
        by_cases hlt : k < 61
        · have okk := ok.pan k
          have hs := servedOf_v (r := 43) (by omega) okk h4
          have g3 := sv_all okk.1 (fun j => zH (pan k A) j == 2)
          rw [pan_N] at g3
          have hdn := isDone_eq okk h3
          rw [pan_N] at hdn
          have hsv : svb (pan k A) = bs (zN A) (fun j => zH (pan k A) j == 2) := by unfold svb; rw [pan_N]
          rw [hsv] at hs hdn
          have n60 : ¬ (60 : Int32) < Int32.ofNat k := fun q => by
            have := (olt (a := 60) (b := k) (by omega) (by omega)).mp q
            omega
          by_cases c : bs (zN A) (fun j => zH (pan k A) j == 2) = (((1 : Int32) <<< (Int32.ofNat (zN A) &&& 31)) - 1)
          · right
            rw [if_pos c] at hdn
            refine ⟨(Int32.ofNat k, u), (Int32.ofNat k, x), ?_, ?_, rfl, h5⟩
            · unfold fX0_done_b17
              dsimp only
              rw [if_neg n60, hdn, Option.bind_some, if_neg (by decide)]
            · unfold fX9_allServed_b6
              dsimp only
              rw [if_neg n60, show fX9_servedOf x 43 = _ from hs, Option.bind_some, if_pos (Eq.mpr g3 c)]
          · left
            rw [if_neg c] at hdn
            obtain ⟨u', y1, y2, -⟩ := pass_eq okk (by rw [pan_M]; omega) h3
            obtain ⟨x', z1, z2, z3⟩ := passes_eq (r := 43) (by omega) okk (by rw [pan_M]; omega) h4
            refine ⟨hlt, (Int32.ofNat (k + 1), u'), (Int32.ofNat (k + 1), x'), ?_, ?_, rfl, rfl, y2, z2, h5.trans z3⟩
            · unfold fX0_done_b17
              dsimp only
              rw [if_neg n60, hdn, Option.bind_some, if_pos rfl, y1, Option.bind_some, o1]
            · unfold fX9_allServed_b6
              dsimp only
              rw [if_neg n60, show fX9_servedOf x 43 = _ from hs, Option.bind_some, if_neg (fun h => c (Eq.mp g3 h)), show fX9_passes x 43 = _ from z1, Option.bind_some, o1]
        · right
          have : k = 61 := by omega
          subst this
          have y60 : (60 : Int32) < Int32.ofNat 61 := by decide
          refine ⟨(-1000000, u), (-1000000, x), ?_, ?_, rfl, h5⟩
          · unfold fX0_done_b17
            dsimp only
            rw [if_pos y60]
          · unfold fX9_allServed_b6
            dsimp only
            rw [if_pos y60]) ⟨rfl, rfl, t2, u2, u4⟩
    refine ⟨r.1, r.2, r'.2, ?_, ?_, x3.2⟩
    · unfold fX0_done
      rw [h1, Option.bind_some, if_neg (by decide), t1, Option.bind_some, x1]
    · unfold fX9_done fX9_allServed
      rw [h2, Option.bind_some, if_neg (by decide), show rd w 1247 0 = some (w 0) from rdn (k := 0) (by omega) (by omega), show w 0 = _ from hm.1, Option.bind_some, u1, Option.bind_some, x2, Option.bind_some, x3.1]
end A2
