/-! THE PLAIN LAW 2b -/
set_option maxRecDepth 100000
section SYS
variable {ln : Nat → Option Int32} {lf : Nat → Nat → Option Nat} {dk : Nat → Option Nat} {la : Nat} {A : AH} {HO AT TO WE HE RA : Nat → Int32}
theorem stops2_eq (hl : ln la = some (Int32.ofNat (zN A))) (ok : OK A) {HO : Nat → Int32} (hO : ∀ k, k < zN A → HO k = Int32.ofNat (s1 A k)) (hAT : ∀ k, k < zN A → AT k = Int32.ofNat (zA A k)) (hWE : ∀ k, k < zN A → WE k = Int32.ofNat (zX A k)) (hRA : ∀ k, k < zN A → RA k = Int32.ofNat (zQ A k)) :
    ∃ r, lp (fX1_stops_b71 ln (zro A) (zrp A) (Int32.ofNat (zC A)) la AT WE RA) FU (0, HO) = some r ∧ ∀ j, j < zN A → r j = Int32.ofNat (s2 A (zN A) j) := by
  have ok' := ok
  obtain ⟨k1, k2, k3, k4, k6⟩ := ok
  refine lp_inv (fun (k : Nat) (s : Int32 × (Nat → Int32)) => s.1 = Int32.ofNat k ∧ ∀ j, j < zN A → s.2 j = Int32.ofNat (s2 A k j)) (fun (r : Nat → Int32) => ∀ j, j < zN A → r j = Int32.ofNat (s2 A (zN A) j)) (zN A) (FUlt (by omega)) (fun k hk s hI => ?_) ⟨rfl, hO⟩
  obtain ⟨i, f⟩ := s
  obtain ⟨h1, h2⟩ := hI
  dsimp only at h1 h2
  subst h1
  by_cases hlt : k < zN A
  · left
    have hq := (k6 k hlt).2.2.2.2.2.2.2
    obtain ⟨b1, b2, b3, b4, b5, b6, b7, b8⟩ := k6 _ hq
    have hle := s2_le ok' k hq
    have g1 : (Int32.ofNat (zN A) ≤ Int32.ofNat k) = (zN A ≤ k) := q_le (by omega) (by omega)
    have g2 : (Int32.ofNat (s2 A k (zQ A k)) = 0) = (s2 A k (zQ A k) = 0) := q_eq (c := 0) (by omega) (by omega)
    have g5 : (Int32.ofNat (zA A (zQ A k)) = Int32.ofNat (zC A)) = (zA A (zQ A k) = zC A) := q_eq (by omega) (by omega)
    have k7 : k < 6 := by omega
    have k8 : zQ A k < 6 := by omega
    have n1 : ¬ zN A ≤ k := by omega
    have e1 : fX1_areSo ln la f 1 = some (bs (zN A) (fun j => s2 A k j == 1)) := by
      rw [show (1 : Int32) = Int32.ofNat 1 from rfl]
      exact areSo_eq hl k1 h2 (fun j hj => s2_le ok' k hj) (by omega)
    have e2 : fX1_load ln la f WE = some (ld A (s2 A k)) := load_eq hl k1 h2 (fun j hj => s2_le ok' k hj) hWE
    have e3 := bits_bs k1 (fun j => s2 A k j == 1)
    simp only [fX1_stops_b71, fX1_many, hl, Option.bind_some, g1, if_neg n1, rdn k7 (show 6 ≤ 2147483648 by omega), rdn k8 (show 6 ≤ 2147483648 by omega), wrn k8 (show 6 ≤ 2147483648 by omega), hRA k hlt, h2 _ hq, hAT _ hq, hWE _ hq, g2, g5, o1]
    have kp : s2 A (k + 1) = s2 A k → ∀ j, j < zN A → f j = Int32.ofNat (s2 A (k + 1) j) := fun e j hj => by rw [e]; exact h2 j hj
    by_cases c1 : s2 A k (zQ A k) = 0
    · by_cases c2 : zA A (zQ A k) = zC A
      · by_cases c3 : zro A ≤ Int32.ofNat (cn (zN A) (fun j => s2 A k j == 1))
        · refine ⟨hlt, (Int32.ofNat (k + 1), f), (if_pos c1).trans ((if_pos c2).trans ?_), rfl, kp (by show s2t A _ _ = _; unfold s2t; rw [if_neg (fun h => h.2.2.1 c3)])⟩
          rw [e1, Option.bind_some, e3, Option.bind_some, if_pos c3]
        · by_cases c4 : zrp A < ld A (s2 A k) + Int32.ofNat (zX A (zQ A k))
          · refine ⟨hlt, (Int32.ofNat (k + 1), f), (if_pos c1).trans ((if_pos c2).trans ?_), rfl, kp (by show s2t A _ _ = _; unfold s2t; rw [if_neg (fun h => h.2.2.2 c4)])⟩
            rw [e1, Option.bind_some, e3, Option.bind_some, if_neg c3, e2, Option.bind_some, if_pos c4]
          · refine ⟨hlt, (Int32.ofNat (k + 1), upd f (zQ A k) 1), (if_pos c1).trans ((if_pos c2).trans ?_), rfl, fun j hj => ?_⟩
            · rw [e1, Option.bind_some, e3, Option.bind_some, if_neg c3, e2, Option.bind_some, if_neg c4]
            · show upd f (zQ A k) 1 j = Int32.ofNat (s2t A (s2 A k) (zQ A k) j)
              unfold s2t
              rw [if_pos ⟨c1, c2, c3, c4⟩]
              by_cases e : j = zQ A k
              · rw [e, upd_same, nu_same]; rfl
              · rw [upd_ne e, nu_ne e]; exact h2 j hj
      · exact ⟨hlt, _, (if_pos c1).trans (if_neg c2), rfl, kp (by show s2t A _ _ = _; unfold s2t; rw [if_neg (fun h => c2 h.2.1)])⟩
    · exact ⟨hlt, _, if_neg c1, rfl, kp (by show s2t A _ _ = _; unfold s2t; rw [if_neg (fun h => c1 h.1)])⟩
  · right
    have : k = zN A := by omega
    subst this
    refine ⟨f, ?_, h2⟩
    simp only [fX1_stops_b71, fX1_many, hl, Option.bind_some, if_pos (yle (a := zN A) (b := zN A) (by omega) (by omega) (Nat.le_refl _))]
end SYS
