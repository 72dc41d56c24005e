/-! THE PLAIN LAW 3b -/
set_option maxRecDepth 100000
section MOD2
variable {w : Nat → Int32} {r : Nat} {A : AH}
theorem serves2_eq {f0 : Nat → Int32} (hr : r + 43 ≤ 1247) (ok : OK A) (hm : MR w r A) (hf0 : PR w f0 r (zN A) (s1 A) (zA A)) : ∃ w', lp (fX9_serves_b119 (Int32.ofNat r)) FU (0, f0) = some w' ∧ PR w w' r (zN A) (s2 A (zN A)) (zA A) := by
  have ok' := ok
  obtain ⟨k1, k2, k3, k4, k6⟩ := ok
  obtain ⟨m0, m1, m2, m3, m4, m5, m6, m7⟩ := hm
  refine lp_inv (fun (k : Nat) (s : Int32 × (Nat → Int32)) => s.1 = Int32.ofNat k ∧ PR w s.2 r (zN A) (s2 A k) (zA A)) (fun (w' : Nat → Int32) => PR w w' r (zN A) (s2 A (zN A)) (zA A)) (zN A) (FUlt (by omega)) (fun k hk s hI => ?_) ⟨rfl, hf0⟩
  obtain ⟨i, f⟩ := s
  obtain ⟨h1, h2⟩ := hI
  dsimp only at h1 h2
  subst h1
  have f0 : f (r + 0) = Int32.ofNat (zN A) := by rw [h2.1 _ (by omega)]; exact m0
  have r0 : rd f 1247 (Int32.ofNat r + 0) = some (f (r + 0)) := rd1 (c := 0) (by omega)
  by_cases hlt : k < zN A
  · left
    have hq := (k6 k hlt).2.2.2.2.2.2.2
    obtain ⟨b1, b2, b3, b4, b5, b6, b7, b8⟩ := k6 _ hq
    have hle := s2_le ok' k hq
    have r37 : rd f 1247 (Int32.ofNat r + 37 + Int32.ofNat k) = some (f (r + 37 + k)) := rdk (c := 37) (by omega)
    have e37 : f (r + 37 + k) = Int32.ofNat (zQ A k) := by rw [h2.1 _ (by omega)]; exact (m7 k hlt).2.2.2.2.2
    have r13 : rd f 1247 (Int32.ofNat r + 13 + Int32.ofNat (zQ A k)) = some (f (r + 13 + zQ A k)) := rdk (c := 13) (by omega)
    have r25 : rd f 1247 (Int32.ofNat r + 25 + Int32.ofNat (zQ A k)) = some (f (r + 25 + zQ A k)) := rdk (c := 25) (by omega)
    have r2 : rd f 1247 (Int32.ofNat r + 2) = some (f (r + 2)) := rd1 (c := 2) (by omega)
    have r3 : rd f 1247 (Int32.ofNat r + 3) = some (f (r + 3)) := rd1 (c := 3) (by omega)
    have r4 : rd f 1247 (Int32.ofNat r + 4) = some (f (r + 4)) := rd1 (c := 4) (by omega)
    have wr13 : ∀ v, wr f 1247 (Int32.ofNat r + 13 + Int32.ofNat (zQ A k)) v = some (upd f (r + 13 + zQ A k) v) := fun v => wrk (c := 13) (by omega)
    have e13 : f (r + 13 + zQ A k) = Int32.ofNat (pos (s2 A k (zQ A k)) (zA A (zQ A k))) := h2.2 _ hq
    have e25 : f (r + 25 + zQ A k) = Int32.ofNat (zX A (zQ A k)) := by rw [h2.1 _ (by omega)]; exact (m7 _ hq).2.2.2.1
    have e2 : f (r + 2) = zro A := by rw [h2.1 _ (by omega)]; exact m2
    have e3 : f (r + 3) = zrp A := by rw [h2.1 _ (by omega)]; exact m3
    have e4 : f (r + 4) = Int32.ofNat (zC A) := by rw [h2.1 _ (by omega)]; exact m4
    have i1 := inside_eq (h := s2 A k) (a := zA A) hr f0 k1 h2.2 (fun j hj => s2_le ok' k hj) (fun j hj => by have := (k6 j hj).2.2.1; omega)
    have i2 := ones_bs k1 (fun j => s2 A k j == 1)
    have i3 : fX9_weightOf f (Int32.ofNat r) (bs (zN A) (fun j => s2 A k j == 1)) = some (ld A (s2 A k)) := by
      rw [weightOf_eq (x := zX A) hr f0 k1 (fun j hj => by rw [h2.1 _ (by omega)]; exact (m7 j hj).2.2.2.1)]
      congr 1
      exact sm_congr (fun j hj => by simp)
    have pC : (Int32.ofNat (pos (s2 A k (zQ A k)) (zA A (zQ A k))) = Int32.ofNat (zC A)) = (s2 A k (zQ A k) = 0 ∧ zA A (zQ A k) = zC A) := by
      rw [q_eq (by unfold pos; split <;> omega) (by omega)]
      unfold pos
      apply propext
      split <;> omega
    have wput : ∀ v, v = Int32.ofNat (pos (s2t A (s2 A k) (zQ A k) (zQ A k)) (zA A (zQ A k))) → PR w (upd f (r + 13 + zQ A k) v) r (zN A) (s2 A (k + 1)) (zA A) := fun v hv => h2.put hq k1 (fun j hj hne => by
      show s2t A (s2 A k) (zQ A k) j = s2 A k j
      unfold s2t
      split
      · exact nu_ne hne
      · rfl) hv
    by_cases c1 : s2 A k (zQ A k) = 0 ∧ zA A (zQ A k) = zC A
    · by_cases c3 : zro A ≤ Int32.ofNat (cn (zN A) (fun j => s2 A k j == 1))
      · have ht : s2t A (s2 A k) (zQ A k) = s2 A k := by unfold s2t; rw [if_neg (fun h => h.2.2.1 c3)]
        refine ⟨hlt, (Int32.ofNat (k + 1), upd f (r + 13 + zQ A k) (Int32.ofNat (pos (s2 A k (zQ A k)) (zA A (zQ A k))))), ?_, rfl, wput _ (by rw [ht])⟩
        unfold fX9_serves_b119
        dsimp only
        rw [r0, f0, Option.bind_some, if_neg (nle (a := zN A) (b := k) (by omega) (by omega) hlt), r37, e37, Option.bind_some, i1, Option.bind_some, i2, Option.bind_some, r2, e2, Option.bind_some, if_pos c3, Option.bind_some, r13, e13, Option.bind_some, r4, e4, Option.bind_some, if_pos (Eq.mpr pC c1), if_pos rfl, Option.bind_some, Option.bind_some, wr13, Option.bind_some, o1]
      · by_cases c4 : zrp A < ld A (s2 A k) + Int32.ofNat (zX A (zQ A k))
        · have ht : s2t A (s2 A k) (zQ A k) = s2 A k := by unfold s2t; rw [if_neg (fun h => h.2.2.2 c4)]
          refine ⟨hlt, (Int32.ofNat (k + 1), upd f (r + 13 + zQ A k) (Int32.ofNat (pos (s2 A k (zQ A k)) (zA A (zQ A k))))), ?_, rfl, wput _ (by rw [ht])⟩
          unfold fX9_serves_b119
          dsimp only
          rw [r0, f0, Option.bind_some, if_neg (nle (a := zN A) (b := k) (by omega) (by omega) hlt), r37, e37, Option.bind_some, i1, Option.bind_some, i2, Option.bind_some, r2, e2, Option.bind_some, if_neg c3, i3, Option.bind_some, r25, e25, Option.bind_some, r3, e3, Option.bind_some, if_pos c4, Option.bind_some, r13, e13, Option.bind_some, r4, e4, Option.bind_some, if_pos (Eq.mpr pC c1), if_pos rfl, Option.bind_some, Option.bind_some, wr13, Option.bind_some, o1]
        · have ht : s2t A (s2 A k) (zQ A k) = nu (s2 A k) (zQ A k) 1 := by unfold s2t; rw [if_pos ⟨c1.1, c1.2, c3, c4⟩]
          refine ⟨hlt, (Int32.ofNat (k + 1), upd f (r + 13 + zQ A k) 10), ?_, rfl, wput _ (by rw [ht, nu_same]; rfl)⟩
          unfold fX9_serves_b119
          dsimp only
          rw [r0, f0, Option.bind_some, if_neg (nle (a := zN A) (b := k) (by omega) (by omega) hlt), r37, e37, Option.bind_some, i1, Option.bind_some, i2, Option.bind_some, r2, e2, Option.bind_some, if_neg c3, i3, Option.bind_some, r25, e25, Option.bind_some, r3, e3, Option.bind_some, if_neg c4, Option.bind_some, r13, e13, Option.bind_some, r4, e4, Option.bind_some, if_pos (Eq.mpr pC c1), if_neg (show ¬ (1 : Int32) = 0 by decide), Option.bind_some, wr13, Option.bind_some, o1]
    · by_cases c3 : zro A ≤ Int32.ofNat (cn (zN A) (fun j => s2 A k j == 1))
      · have ht : s2t A (s2 A k) (zQ A k) = s2 A k := by unfold s2t; rw [if_neg (fun h => h.2.2.1 c3)]
        refine ⟨hlt, (Int32.ofNat (k + 1), upd f (r + 13 + zQ A k) (Int32.ofNat (pos (s2 A k (zQ A k)) (zA A (zQ A k))))), ?_, rfl, wput _ (by rw [ht])⟩
        unfold fX9_serves_b119
        dsimp only
        rw [r0, f0, Option.bind_some, if_neg (nle (a := zN A) (b := k) (by omega) (by omega) hlt), r37, e37, Option.bind_some, i1, Option.bind_some, i2, Option.bind_some, r2, e2, Option.bind_some, if_pos c3, Option.bind_some, r13, e13, Option.bind_some, r4, e4, Option.bind_some, if_neg (fun h => c1 (Eq.mp pC h)), Option.bind_some, Option.bind_some, wr13, Option.bind_some, o1]
      · by_cases c4 : zrp A < ld A (s2 A k) + Int32.ofNat (zX A (zQ A k))
        · have ht : s2t A (s2 A k) (zQ A k) = s2 A k := by unfold s2t; rw [if_neg (fun h => h.2.2.2 c4)]
          refine ⟨hlt, (Int32.ofNat (k + 1), upd f (r + 13 + zQ A k) (Int32.ofNat (pos (s2 A k (zQ A k)) (zA A (zQ A k))))), ?_, rfl, wput _ (by rw [ht])⟩
          unfold fX9_serves_b119
          dsimp only
          rw [r0, f0, Option.bind_some, if_neg (nle (a := zN A) (b := k) (by omega) (by omega) hlt), r37, e37, Option.bind_some, i1, Option.bind_some, i2, Option.bind_some, r2, e2, Option.bind_some, if_neg c3, i3, Option.bind_some, r25, e25, Option.bind_some, r3, e3, Option.bind_some, if_pos c4, Option.bind_some, r13, e13, Option.bind_some, r4, e4, Option.bind_some, if_neg (fun h => c1 (Eq.mp pC h)), Option.bind_some, Option.bind_some, wr13, Option.bind_some, o1]
        · have ht : s2t A (s2 A k) (zQ A k) = s2 A k := by unfold s2t; rw [if_neg (fun h => c1 ⟨h.1, h.2.1⟩)]
          refine ⟨hlt, (Int32.ofNat (k + 1), upd f (r + 13 + zQ A k) (Int32.ofNat (pos (s2 A k (zQ A k)) (zA A (zQ A k))))), ?_, rfl, wput _ (by rw [ht])⟩
          unfold fX9_serves_b119
          dsimp only
          rw [r0, f0, Option.bind_some, if_neg (nle (a := zN A) (b := k) (by omega) (by omega) hlt), r37, e37, Option.bind_some, i1, Option.bind_some, i2, Option.bind_some, r2, e2, Option.bind_some, if_neg c3, i3, Option.bind_some, r25, e25, Option.bind_some, r3, e3, Option.bind_some, if_neg c4, Option.bind_some, r13, e13, Option.bind_some, r4, e4, Option.bind_some, if_neg (fun h => c1 (Eq.mp pC h)), Option.bind_some, Option.bind_some, wr13, Option.bind_some, o1]
  · right
    have : k = zN A := by omega
    subst this
    refine ⟨f, ?_, h2⟩
    simp only [fX9_serves_b119, r0, f0, Option.bind_some, if_pos (yle (a := zN A) (b := zN A) (by omega) (by omega) (Nat.le_refl _))]
end MOD2
