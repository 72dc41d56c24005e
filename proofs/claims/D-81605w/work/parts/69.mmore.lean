/-! THE PLAIN LAW 5: the reference's other questions; ranges of arguments -/
set_option maxRecDepth 100000
section MM
variable {w : Nat → Int32} {r : Nat} {A : AH}
theorem mN (hr : r + 43 ≤ 1247) (hm : MR w r A) : rd w 1247 (Int32.ofNat r + 0) = some (Int32.ofNat (zN A)) := (rd1 (c := 0) (by omega)).trans (by rw [hm.1])
theorem fineOf_eq (hr : r + 43 ≤ 1247) (ok : OK A) (hm : MR w r A) : fX9_fineOf w (Int32.ofNat r) = some (fnb A) := by
  have r0 := mN hr hm
  obtain ⟨k1, k2, k3, k4, k6⟩ := ok
  obtain ⟨m0, m1, m2, m3, m4, m5, m6, m7⟩ := hm
  have := lp_cnt (b := fX9_fineOf_b4 w (Int32.ofNat r)) (r := fnb A) (n := zN A) (FUlt (by omega)) (fun k => (bs k (fun k => zH A k == 2 && gd (zK A k) (zG A k)), Int32.ofNat k)) (fun k hk => by
    obtain ⟨b1, b2, b3, b4, b5, b6, b7, b8⟩ := k6 k hk
    obtain ⟨n1, n2, n3, n4, n5, n6⟩ := m7 k hk
    have r13 : rd w 1247 (Int32.ofNat r + 13 + Int32.ofNat k) = some (w (r + 13 + k)) := rdk (c := 13) (by omega)
    have r7 : rd w 1247 (Int32.ofNat r + 7 + Int32.ofNat k) = some (w (r + 7 + k)) := rdk (c := 7) (by omega)
    have r31 : rd w 1247 (Int32.ofNat r + 31 + Int32.ofNat k) = some (w (r + 31 + k)) := rdk (c := 31) (by omega)
    have g2 := pos11 b2 (show zA A k < 9 by omega)
    have hg := mgood_eq ⟨zK A k, b1⟩ ⟨zG A k, by omega⟩
    unfold fX9_fineOf_b4
    dsimp only at hg ⊢
    rw [r0, Option.bind_some, if_neg (nle (a := zN A) (b := k) (by omega) (by omega) hk), r13, n2, Option.bind_some]
    by_cases c : zH A k = 2
    · rw [if_pos (Eq.mpr g2 c), r7, n1, Option.bind_some, r31, n5, Option.bind_some, hg, Option.bind_some, o1]
      cases hc : gd (zK A k) (zG A k)
      · simp [bs, c, hc]
      · simp [bs, c, hc]
    · rw [if_neg (fun h => c (Eq.mp g2 h)), o1]
      simp [bs, c]) (by
    unfold fX9_fineOf_b4
    dsimp only
    rw [r0, Option.bind_some, if_pos (yle (a := zN A) (b := zN A) (by omega) (by omega) (Nat.le_refl _))]
    rfl)
  exact congrArg (fun z => Option.bind z fun r1 => some r1) this
theorem heatOf_eq (hr : r + 43 ≤ 1247) (ok : OK A) (hm : MR w r A) : fX9_heatOf w (Int32.ofNat r) = some (hal A) := by
  have r0 := mN hr hm
  obtain ⟨k1, k2, k3, k4, k6⟩ := ok
  obtain ⟨m0, m1, m2, m3, m4, m5, m6, m7⟩ := hm
  have := lp_cnt (b := fX9_heatOf_b4 w (Int32.ofNat r)) (r := hal A) (n := zN A) (FUlt (by omega)) (fun k => (sm k (fun k => Int32.ofNat (zG A k)), Int32.ofNat k)) (fun k hk => by
    have r31 : rd w 1247 (Int32.ofNat r + 31 + Int32.ofNat k) = some (w (r + 31 + k)) := rdk (c := 31) (by omega)
    unfold fX9_heatOf_b4
    dsimp only
    rw [r0, Option.bind_some, if_neg (nle (a := zN A) (b := k) (by omega) (by omega) hk), r31, (m7 k hk).2.2.2.2.1, Option.bind_some, o1]
    rfl) (by
    unfold fX9_heatOf_b4
    dsimp only
    rw [r0, Option.bind_some, if_pos (yle (a := zN A) (b := zN A) (by omega) (by omega) (Nat.le_refl _))]
    rfl)
  exact congrArg (fun z => Option.bind z fun r1 => some r1) this
theorem heatServed_eq (hr : r + 43 ≤ 1247) (ok : OK A) (hm : MR w r A) : fX9_heatServed w (Int32.ofNat r) = some (hsv A) := by
  have r0 := mN hr hm
  obtain ⟨k1, k2, k3, k4, k6⟩ := ok
  obtain ⟨m0, m1, m2, m3, m4, m5, m6, m7⟩ := hm
  have := lp_cnt (b := fX9_heatServed_b4 w (Int32.ofNat r)) (r := hsv A) (n := zN A) (FUlt (by omega)) (fun k => (sm k (fun k => if zH A k = 2 then Int32.ofNat (zG A k) else 0), Int32.ofNat k)) (fun k hk => by
    obtain ⟨b1, b2, b3, b4, b5, b6, b7, b8⟩ := k6 k hk
    obtain ⟨n1, n2, n3, n4, n5, n6⟩ := m7 k hk
    have r13 : rd w 1247 (Int32.ofNat r + 13 + Int32.ofNat k) = some (w (r + 13 + k)) := rdk (c := 13) (by omega)
    have r31 : rd w 1247 (Int32.ofNat r + 31 + Int32.ofNat k) = some (w (r + 31 + k)) := rdk (c := 31) (by omega)
    have g2 := pos11 b2 (show zA A k < 9 by omega)
    unfold fX9_heatServed_b4
    dsimp only
    rw [r0, Option.bind_some, if_neg (nle (a := zN A) (b := k) (by omega) (by omega) hk), r13, n2, Option.bind_some]
    by_cases c : zH A k = 2
    · rw [if_pos (Eq.mpr g2 c), r31, n5, Option.bind_some, o1]
      simp [sm, c]
    · rw [if_neg (fun h => c (Eq.mp g2 h)), o1]
      simp [sm, c]) (by
    unfold fX9_heatServed_b4
    dsimp only
    rw [r0, Option.bind_some, if_pos (yle (a := zN A) (b := zN A) (by omega) (by omega) (Nat.le_refl _))]
    rfl)
  exact congrArg (fun z => Option.bind z fun r1 => some r1) this
theorem servedOf_v (hr : r + 43 ≤ 1247) (ok : OK A) (hm : MR w r A) : fX9_servedOf w (Int32.ofNat r) = some (svb A) :=
  served_eq (h := zH A) (a := zA A) hr hm.1 ok.1 (fun k hk => (hm.2.2.2.2.2.2.2 k hk).2.1) (fun k hk => (ok.2.2.2.2 k hk).2.1) (fun k hk => by have := (ok.2.2.2.2 k hk).2.2.1; have := ok.2.1; omega)
theorem insideOf_v (hr : r + 43 ≤ 1247) (ok : OK A) (hm : MR w r A) : fX9_insideOf w (Int32.ofNat r) = some (bs (zN A) (fun k => zH A k == 1)) :=
  inside_eq (h := zH A) (a := zA A) hr hm.1 ok.1 (fun k hk => (hm.2.2.2.2.2.2.2 k hk).2.1) (fun k hk => (ok.2.2.2.2 k hk).2.1) (fun k hk => by have := (ok.2.2.2.2 k hk).2.2.1; have := ok.2.1; omega)
theorem sendsBack_eq (hr : r + 43 ≤ 1247) (ok : OK A) (hm : MR w r A) {d f g : Nat} (hd : d < zN A) : ∃ w', fX9_sendsBack w (Int32.ofNat r) (Int32.ofNat d) (Int32.ofNat f) (Int32.ofNat g) = some w' ∧ MR w' r (sdA A d f g) ∧ FR w w' r := by
  obtain ⟨k1, k2, k3, k4, k6⟩ := ok
  obtain ⟨m0, m1, m2, m3, m4, m5, m6, m7⟩ := hm
  have r19 : rd w 1247 (Int32.ofNat r + 19 + Int32.ofNat d) = some (w (r + 19 + d)) := rdk (c := 19) (by omega)
  have w13 : ∀ (f : Nat → Int32) v, wr f 1247 (Int32.ofNat r + 13 + Int32.ofNat d) v = some (upd f (r + 13 + d) v) := fun f v => wrk (c := 13) (by omega)
  have w19 : ∀ (f : Nat → Int32) v, wr f 1247 (Int32.ofNat r + 19 + Int32.ofNat d) v = some (upd f (r + 19 + d) v) := fun f v => wrk (c := 19) (by omega)
  have w31 : ∀ (f : Nat → Int32) v, wr f 1247 (Int32.ofNat r + 31 + Int32.ofNat d) v = some (upd f (r + 31 + d) v) := fun f v => wrk (c := 31) (by omega)
  have hu : ∀ i, i ≠ r + 13 + d → i ≠ r + 19 + d → i ≠ r + 31 + d → upd (upd (upd w (r + 13 + d) (w (r + 19 + d))) (r + 19 + d) (Int32.ofNat f)) (r + 31 + d) (Int32.ofNat g) i = w i := fun i h1 h2 h3 => by rw [upd_ne h3, upd_ne h2, upd_ne h1]
  refine ⟨upd (upd (upd w (r + 13 + d) (w (r + 19 + d))) (r + 19 + d) (Int32.ofNat f)) (r + 31 + d) (Int32.ofNat g), ?_, ⟨?_, ?_, ?_, ?_, ?_, ?_, ?_, fun k hk => ?_⟩, fun i hi => hu i (by omega) (by omega) (by omega)⟩
  · unfold fX9_sendsBack
    rw [r19, Option.bind_some, w13, Option.bind_some, w19, Option.bind_some, w31]
    rfl
  · rw [hu _ (by omega) (by omega) (by omega)]; exact m0
  · rw [hu _ (by omega) (by omega) (by omega)]; exact m1
  · rw [hu _ (by omega) (by omega) (by omega)]; exact m2
  · rw [hu _ (by omega) (by omega) (by omega)]; exact m3
  · rw [hu _ (by omega) (by omega) (by omega)]; exact m4
  · rw [hu _ (by omega) (by omega) (by omega)]; exact m5
  · rw [hu _ (by omega) (by omega) (by omega)]; exact m6
  · have hk : k < zN A := hk
    obtain ⟨n1, n2, n3, n4, n5, n6⟩ := m7 k hk
    refine ⟨?_, ?_, ?_, ?_, ?_, ?_⟩
    · rw [hu _ (by omega) (by omega) (by omega)]; exact n1
    · show _ = Int32.ofNat (pos (nu (zH A) d 0 k) (nu (zA A) d (zT A d) k))
      by_cases e : k = d
      · subst e
        rw [upd_ne (by omega), upd_ne (by omega), upd_same, nu_same, nu_same, n3]
        rfl
      · rw [hu _ (by omega) (by omega) (by omega), nu_ne e, nu_ne e]; exact n2
    · show _ = Int32.ofNat (nu (zT A) d f k)
      by_cases e : k = d
      · subst e
        rw [upd_ne (by omega), upd_same, nu_same]
      · rw [hu _ (by omega) (by omega) (by omega), nu_ne e]; exact n3
    · rw [hu _ (by omega) (by omega) (by omega)]; exact n4
    · show _ = Int32.ofNat (nu (zG A) d g k)
      by_cases e : k = d
      · subst e
        rw [upd_same, nu_same]
      · rw [hu _ (by omega) (by omega) (by omega), nu_ne e]; exact n5
    · rw [hu _ (by omega) (by omega) (by omega)]; exact n6
/-- a row copied -/
theorem copyOf_eq {a b : Nat} (ha : a + 43 ≤ 1247) (hb : b + 43 ≤ 1247) (hab : a + 43 ≤ b ∨ b + 43 ≤ a) : ∃ w', fX9_copyOf w (Int32.ofNat a) (Int32.ofNat b) = some w' ∧ (∀ k, k < 43 → w' (b + k) = w (a + k)) ∧ FR w w' b := by
  obtain ⟨w1, h1, h2⟩ := lp_inv (b := fX9_copyOf_b2 (Int32.ofNat a) (Int32.ofNat b)) (s := (0, w)) (fun (k : Nat) (s : Int32 × (Nat → Int32)) => s.1 = Int32.ofNat k ∧ (∀ j, j < k → s.2 (b + j) = w (a + j)) ∧ ∀ i, i < b ∨ b + k ≤ i → s.2 i = w i) (fun (w' : Nat → Int32) => (∀ k, k < 43 → w' (b + k) = w (a + k)) ∧ FR w w' b) 43 (FUlt (by omega)) (fun k hk s hI => by
    obtain ⟨i, f⟩ := s
    obtain ⟨h1, h2, h3⟩ := hI
    dsimp only at h1 h2 h3
    subst h1
    by_cases hlt : k < 43
    · left
      have ra : rd f 1247 (Int32.ofNat a + Int32.ofNat k) = some (f (a + k)) := rd1 (c := k) (by omega)
      have wb : ∀ v, wr f 1247 (Int32.ofNat b + Int32.ofNat k) v = some (upd f (b + k) v) := fun v => wr1 (c := k) (by omega)
      refine ⟨hlt, (Int32.ofNat (k + 1), upd f (b + k) (f (a + k))), ?_, rfl, fun j hj => ?_, fun i hi => ?_⟩
      · unfold fX9_copyOf_b2
        dsimp only
        rw [if_neg (show ¬ (43 : Int32) ≤ Int32.ofNat k from nle (a := 43) (b := k) (by omega) (by omega) hlt), ra, Option.bind_some, wb, Option.bind_some, o1]
      · dsimp only
        by_cases e : j = k
        · subst e; rw [upd_same]; exact h3 _ (by omega)
        · rw [upd_ne (by omega)]; exact h2 j (by omega)
      · dsimp only
        rw [upd_ne (by omega)]
        exact h3 i (by omega)
    · right
      have : k = 43 := by omega
      subst this
      refine ⟨f, ?_, h2, h3⟩
      unfold fX9_copyOf_b2
      dsimp only
      rw [if_pos (show (43 : Int32) ≤ Int32.ofNat 43 from yle (a := 43) (b := 43) (by omega) (by omega) (Nat.le_refl _))]) ⟨rfl, fun j hj => by omega, fun i _ => rfl⟩
  refine ⟨w1, ?_, h2.1, h2.2⟩
  unfold fX9_copyOf
  rw [h1]
  rfl
theorem MR.move {w' : Nat → Int32} {b : Nat} (hN : zN A ≤ 6) (hm : MR w r A) (h : ∀ k, k < 43 → w' (b + k) = w (r + k)) : MR w' b A := by
  obtain ⟨m0, m1, m2, m3, m4, m5, m6, m7⟩ := hm
  refine ⟨(h _ (by omega)).trans m0, (h _ (by omega)).trans m1, (h _ (by omega)).trans m2, (h _ (by omega)).trans m3, (h _ (by omega)).trans m4, (h _ (by omega)).trans m5, (h _ (by omega)).trans m6, fun k hk => ?_⟩
  obtain ⟨n1, n2, n3, n4, n5, n6⟩ := m7 k hk
  have hc : ∀ c, c + k < 43 → w' (b + c + k) = w (r + c + k) := fun c hc => by
    have := h (c + k) hc
    rw [← Nat.add_assoc, ← Nat.add_assoc] at this
    exact this
  exact ⟨(hc _ (by omega)).trans n1, (hc _ (by omega)).trans n2, (hc _ (by omega)).trans n3, (hc _ (by omega)).trans n4, (hc _ (by omega)).trans n5, (hc _ (by omega)).trans n6⟩
theorem MR.keep {w' : Nat → Int32} (hN : zN A ≤ 6) (hm : MR w r A) (h : ∀ i, r ≤ i → i < r + 43 → w' i = w i) : MR w' r A :=
  hm.move hN (fun k hk => h _ (by omega) (by omega))
end MM
/-! ranges of arguments -/
theorem i32_of {p : Int32} (h : 0 ≤ p.toInt) : ∃ n : Nat, p = Int32.ofNat n ∧ n < 2147483648 ∧ p.toInt = n := by
  have h0 : 0 ≤ p := Int32.le_iff_toInt_le.mpr (by rw [show (0 : Int32).toInt = 0 from by decide]; exact h)
  refine ⟨p.toNatClampNeg, (Int32.ofNat_toNatClampNeg p h0).symm, Int32.toNatClampNeg_lt p, (Int32.toInt_eq_toNatClampNeg h0)⟩
theorem in_eq (p : Int32) (a b : Int64) : fX0_isIn p.toInt64 a b = some (if a.toInt ≤ p.toInt ∧ p.toInt ≤ b.toInt then 1 else 0) := by
  unfold fX0_isIn
  have e1 : (p.toInt64 < a) = (p.toInt < a.toInt) := by rw [Int64.lt_iff_toInt_lt, Int32.toInt_toInt64]
  have e2 : (b < p.toInt64) = (b.toInt < p.toInt) := by rw [Int64.lt_iff_toInt_lt, Int32.toInt_toInt64]
  simp only [e1, e2]
  by_cases c1 : p.toInt < a.toInt
  · rw [if_pos c1, if_neg (by omega)]
  · rw [if_neg c1]
    by_cases c2 : b.toInt < p.toInt
    · rw [if_pos c2, if_neg (by omega)]
    · rw [if_neg c2, if_pos (by omega)]
theorem in_same (x a b : Int64) : fX9_in x a b = fX0_isIn x a b := rfl
theorem gb01 (c : Prop) [Decidable c] : gb (if c then 1 else 0) = some () := by
  unfold gb
  by_cases h : c
  · rw [if_pos h]; rfl
  · rw [if_neg h]; rfl
