/-! THE PLAIN LAW 2: the system's house computes it -/
set_option maxRecDepth 100000
theorem nle {a b : Nat} (ha : a < 2147483648) (hb : b < 2147483648) (h : b < a) : ¬ Int32.ofNat a ≤ Int32.ofNat b := fun q => by
  have := (ole ha hb).mp q
  omega
theorem yle {a b : Nat} (ha : a < 2147483648) (hb : b < 2147483648) (h : a ≤ b) : Int32.ofNat a ≤ Int32.ofNat b := (ole ha hb).mpr h
theorem one (a : Nat) {c : Nat} (ha : a < 2147483648) (hc : c < 2147483648) (h : a ≠ c) : ¬ Int32.ofNat a = Int32.ofNat c := fun q => h ((oeq ha hc).mp q)
theorem FUlt {n : Nat} (h : n ≤ 1000) : n < FU := by rw [FU_val]; omega
theorem areSo_eq {ln : Nat → Option Int32} {la : Nat} {HO : Nat → Int32} {N : Nat} {h : Nat → Nat} (hl : ln la = some (Int32.ofNat N)) (hN : N ≤ 6) (hO : ∀ k, k < N → HO k = Int32.ofNat (h k)) (hh : ∀ k, k < N → h k ≤ 2) {c : Nat} (hc : c ≤ 2) : fX1_areSo ln la HO (Int32.ofNat c) = some (bs N (fun k => h k == c)) := by
  have := lp_cnt (b := fX1_areSo_b4 ln la HO (Int32.ofNat c)) (r := bs N (fun k => h k == c)) (n := N) (FUlt (by omega)) (fun k => (bs k (fun k => h k == c), Int32.ofNat k)) (fun k hk => by
    have e1 := nle (a := N) (b := k) (by omega) (by omega) hk
    have e3 := hh k hk
    simp only [fX1_areSo_b4, fX1_many, hl, Option.bind_some, if_neg e1, rdn (show k < 6 by omega) (show 6 ≤ 2147483648 by omega), hO k hk, o1]
    by_cases e2 : h k = c
    · rw [if_pos (by rw [e2])]
      simp [bs, e2]
    · rw [if_neg (one _ (by omega) (by omega) e2)]
      simp [bs, e2]) (by
    simp only [fX1_areSo_b4, fX1_many, hl, Option.bind_some, if_pos (yle (a := N) (b := N) (by omega) (by omega) (Nat.le_refl _))])
  exact congrArg (fun z => Option.bind z fun r1 => some r1) this
theorem load_eq {ln : Nat → Option Int32} {la : Nat} {HO WE : Nat → Int32} {N : Nat} {h x : Nat → Nat} (hl : ln la = some (Int32.ofNat N)) (hN : N ≤ 6) (hO : ∀ k, k < N → HO k = Int32.ofNat (h k)) (hh : ∀ k, k < N → h k ≤ 2) (hW : ∀ k, k < N → WE k = Int32.ofNat (x k)) : fX1_load ln la HO WE = some (sm N (fun k => if h k = 1 then Int32.ofNat (x k) else 0)) := by
  have := lp_cnt (b := fX1_load_b4 ln la HO WE) (r := sm N (fun k => if h k = 1 then Int32.ofNat (x k) else 0)) (n := N) (FUlt (by omega)) (fun k => (sm k (fun k => if h k = 1 then Int32.ofNat (x k) else 0), Int32.ofNat k)) (fun k hk => by
    have e1 := nle (a := N) (b := k) (by omega) (by omega) hk
    have e3 := hh k hk
    simp only [fX1_load_b4, fX1_many, hl, Option.bind_some, if_neg e1, rdn (show k < 6 by omega) (show 6 ≤ 2147483648 by omega), hO k hk, hW k hk, o1]
    by_cases e2 : h k = 1
    · rw [if_pos (by rw [e2]; rfl)]
      simp [sm, e2]
    · rw [if_neg (show ¬ Int32.ofNat (h k) = 1 from one _ (c := 1) (by omega) (by omega) e2)]
      simp [sm, e2]) (by
    simp only [fX1_load_b4, fX1_many, hl, Option.bind_some, if_pos (yle (a := N) (b := N) (by omega) (by omega) (Nat.le_refl _))])
  exact congrArg (fun z => Option.bind z fun r1 => some r1) this
theorem seq_keep {f : Nat → Int32} {g f0 : Nat → Nat} {k N : Nat} (h : ∀ j, j < N → f j = Int32.ofNat (if j < k then g j else f0 j)) (e : g k = f0 k) : ∀ j, j < N → f j = Int32.ofNat (if j < k + 1 then g j else f0 j) := by
  intro j hj
  rw [h j hj]
  rcases Nat.lt_trichotomy j k with q | q | q
  · rw [if_pos q, if_pos (by omega)]
  · subst q; rw [if_neg (by omega), if_pos (by omega), e]
  · rw [if_neg (by omega), if_neg (by omega)]
theorem seq_upd {f : Nat → Int32} {g f0 : Nat → Nat} {k N : Nat} (h : ∀ j, j < N → f j = Int32.ofNat (if j < k then g j else f0 j)) {x : Int32} (e : x = Int32.ofNat (g k)) : ∀ j, j < N → upd f k x j = Int32.ofNat (if j < k + 1 then g j else f0 j) := by
  intro j hj
  rcases Nat.lt_trichotomy j k with q | q | q
  · rw [upd_ne (by omega), h j hj, if_pos q, if_pos (by omega)]
  · subst q; rw [upd_same, if_pos (by omega), e]
  · rw [upd_ne (by omega), h j hj, if_neg (by omega), if_neg (by omega)]
theorem q_eq {a c : Nat} (ha : a < 2147483648) (hc : c < 2147483648) : (Int32.ofNat a = Int32.ofNat c) = (a = c) := propext (oeq ha hc)
theorem q_le {a c : Nat} (ha : a < 2147483648) (hc : c < 2147483648) : (Int32.ofNat a ≤ Int32.ofNat c) = (a ≤ c) := propext (ole ha hc)
theorem q_lt {a c : Nat} (ha : a < 2147483648) (hc : c < 2147483648) : (Int32.ofNat a < Int32.ofNat c) = (a < c) := propext (olt ha hc)
section SYS
variable {ln : Nat → Option Int32} {lf : Nat → Nat → Option Nat} {dk : Nat → Option Nat} {la : Nat} {A : AH} {HO AT TO WE HE RA : Nat → Int32}
theorem stops1_eq (hl : ln la = some (Int32.ofNat (zN A))) (ok : OK A) (hO : ∀ k, k < zN A → HO k = Int32.ofNat (zH A k)) (hAT : ∀ k, k < zN A → AT k = Int32.ofNat (zA A k)) (hTO : ∀ k, k < zN A → TO k = Int32.ofNat (zT A k)) :
    ∃ r, lp (fX1_stops_b2 ln (Int32.ofNat (zC A)) la AT TO) FU (0, HO) = some r ∧ ∀ j, j < zN A → r j = Int32.ofNat (s1 A j) := by
  obtain ⟨k1, k2, k3, k4, k6⟩ := ok
  refine lp_inv (fun (k : Nat) (s : Int32 × (Nat → Int32)) => s.1 = Int32.ofNat k ∧ ∀ j, j < zN A → s.2 j = Int32.ofNat (if j < k then s1 A j else zH A j)) (fun (r : Nat → Int32) => ∀ j, j < zN A → r j = Int32.ofNat (s1 A j)) (zN A) (FUlt (by omega)) (fun k hk s hI => ?_) ⟨rfl, fun j hj => by rw [if_neg (by omega)]; exact hO j hj⟩
  obtain ⟨i, f⟩ := s
  obtain ⟨h1, h2⟩ := hI
  dsimp only at h1 h2
  subst h1
  by_cases hlt : k < zN A
  · left
    obtain ⟨b1, b2, b3, b4, b5, b6, b7, b8⟩ := k6 k hlt
    have hfk : f k = Int32.ofNat (zH A k) := by rw [h2 k hlt, if_neg (by omega)]
    have g1 : (Int32.ofNat (zN A) ≤ Int32.ofNat k) = (zN A ≤ k) := q_le (by omega) (by omega)
    have g2 : (Int32.ofNat (zH A k) = 2) = (zH A k = 2) := q_eq (c := 2) (by omega) (by omega)
    have g3 : (Int32.ofNat (zH A k) = 1) = (zH A k = 1) := q_eq (c := 1) (by omega) (by omega)
    have g4 : (Int32.ofNat (zT A k) = Int32.ofNat (zC A)) = (zT A k = zC A) := q_eq (by omega) (by omega)
    have g5 : (Int32.ofNat (zA A k) = Int32.ofNat (zC A)) = (zA A k = zC A) := q_eq (by omega) (by omega)
    have k7 : k < 6 := by omega
    have n1 : ¬ zN A ≤ k := by omega
    simp only [fX1_stops_b2, fX1_many, hl, Option.bind_some, g1, if_neg n1, rdn k7 (show 6 ≤ 2147483648 by omega), wrn k7 (show 6 ≤ 2147483648 by omega), hfk, hAT k hlt, hTO k hlt, g2, g3, g4, g5, o1]
    by_cases c1 : zH A k = 2
    · exact ⟨hlt, _, if_pos c1, rfl, seq_keep h2 (by simp [s1, c1])⟩
    · by_cases c2 : zT A k = zC A
      · by_cases c3 : zH A k = 1
        · exact ⟨hlt, _, (if_neg c1).trans ((if_pos c2).trans (if_pos c3)), rfl, seq_upd h2 (by simp [s1, c1, c2, c3])⟩
        · by_cases c4 : zA A k = zC A
          · exact ⟨hlt, _, (if_neg c1).trans ((if_pos c2).trans ((if_neg c3).trans (if_pos c4))), rfl, seq_upd h2 (by simp [s1, c1, c2, c4])⟩
          · exact ⟨hlt, _, (if_neg c1).trans ((if_pos c2).trans ((if_neg c3).trans (if_neg c4))), rfl, seq_keep h2 (by simp [s1, c3, c4])⟩
      · exact ⟨hlt, _, (if_neg c1).trans (if_neg c2), rfl, seq_keep h2 (by simp [s1, c2])⟩
  · right
    have : k = zN A := by omega
    subst this
    refine ⟨f, ?_, fun j hj => by rw [h2 j hj, if_pos hj]⟩
    simp only [fX1_stops_b2, fX1_many, hl, Option.bind_some, if_pos (yle (a := zN A) (b := zN A) (by omega) (by omega) (Nat.le_refl _))]
theorem s1_le (ok : OK A) {k : Nat} (hk : k < zN A) : s1 A k ≤ 2 := by
  have := (ok.2.2.2.2 k hk).2.1
  unfold s1
  split <;> omega
theorem s2_le (ok : OK A) : ∀ (e : Nat) {k : Nat}, k < zN A → s2 A e k ≤ 2
  | 0, k, hk => s1_le ok hk
  | e + 1, k, hk => by
    have := s2_le ok e hk
    unfold s2 s2t
    split
    · unfold nu; split <;> omega
    · exact this
end SYS
