/-! THE PLAIN LAW 29: one minute of minutes -/
set_option maxRecDepth 100000
section MI
variable {ln : Nat → Option Int32} {lf : Nat → Nat → Option Nat} {dk : Nat → Option Nat} {hv q : HV} {w : Nat → Int32} {A : AH} {PH : Nat → HV} {g : Nat}
/-- the reference's step, and what the system's keep and pass leave -/
theorem min_step (hL : LV ln lf dk hv w A) (hM : zM A ≤ 998) (hP : PVs ln lf dk PH w g) (hq : SR ln lf dk q A) (hqn : Htf q = (-1000000)) {n k : Nat} (hk : k < n) (hn : n ≤ 24) : ∃ w2 v', fX9_minutes_b45 (Int32.ofNat n) (Int32.ofNat k, Int32.ofNat g, w) = some (.inl (Int32.ofNat (k + 1), Int32.ofNat (gk g), w2)) ∧ gX1_pass ln lf dk hv = some v' ∧ LV ln lf dk v' w2 (pa A) ∧ PVs ln lf dk (pk PH g q) w2 (gk g) ∧ ∀ i, 43 ≤ i → i < 215 → w2 i = w i := by
  obtain ⟨hS, hm, ok, hN1, hM', hn0⟩ := hL
  obtain ⟨w1, m1, m2, m3⟩ := past_keep hm ok hN1 hM' hP hq hqn
  have hm1 := hm.keep (w' := w1) ok.1 (fun i _ hi => m3 i (by omega))
  obtain ⟨w2, f1, f2, f3⟩ := passes_eq (r := 0) (by omega) ok (by omega) hm1
  obtain ⟨v', g1, g2, -, g4, -⟩ := pass_eq ok (by omega) hS
  refine ⟨w2, v', ?_, g1, ⟨g2, f2, ok.pa, (by rw [pa_N]; exact hN1), (by rw [pa_M]; omega), g4.trans hn0⟩, m2.keep (fun i hi => f3 i (by omega)), fun i h1 h2 => (f3 i (by omega)).trans (m3 i h2)⟩
  unfold fX9_minutes_b45
  dsimp only
  rw [if_neg (nle (a := n) (b := k) (by omega) (by omega) hk), m1, Option.bind_some, show fX9_passes w1 0 = some w2 from f1, Option.bind_some, o1]
theorem min_end {n : Nat} {u : Int32} (hn : n ≤ 24) : fX9_minutes_b45 (Int32.ofNat n) (Int32.ofNat n, u, w) = some (.inr (u, w)) := by
  unfold fX9_minutes_b45
  dsimp only
  rw [if_pos (yle (a := n) (b := n) (by omega) (by omega) (Nat.le_refl _))]
end MI
