/-! THE PLAIN LAW 2c -/
set_option maxRecDepth 100000
section SYS
variable {ln : Nat → Option Int32} {lf : Nat → Nat → Option Nat} {dk : Nat → Option Nat} {la : Nat} {A : AH} {HO AT TO WE HE RA : Nat → Int32}
def csk (A : AH) (k f : Nat) : Bool := an k (fun d => (zH A d == 1 && zT A d == f) || (zH A d == 0 && (!decide (zrp A < Int32.ofNat (zX A d))) && zA A d == f))
theorem bs9_add {p q : Nat → Bool} {c : Nat} (hc : c < 9) (h : ∀ f, q f = (p f || f == c)) : bs 9 p ||| ((1 : Int32) <<< (Int32.ofNat c &&& 31)) = bs 9 q := by
  rw [bs_or 9 p c hc]
  exact bs_congr (fun k _ => (h k).symm)
theorem beqc (a b : Nat) : (a == b) = (b == a) := by
  rw [Bool.eq_iff_iff, beq_iff_eq, beq_iff_eq]
  exact eq_comm
theorem csk_zero (A : AH) : bs 9 (csk A 0) = 0 := by
  rw [bs_congr (p := csk A 0) (q := fun _ => false) (fun k _ => rfl)]
  decide
theorem called_eq (hl : ln la = some (Int32.ofNat (zN A))) (ok : OK A) (hO : ∀ k, k < zN A → HO k = Int32.ofNat (zH A k)) (hAT : ∀ k, k < zN A → AT k = Int32.ofNat (zA A k)) (hTO : ∀ k, k < zN A → TO k = Int32.ofNat (zT A k)) (hWE : ∀ k, k < zN A → WE k = Int32.ofNat (zX A k)) :
    fX1_called ln (zrp A) (Int32.ofNat (zC A)) la HO AT TO WE = some (bs 9 (cst A)) := by
  obtain ⟨k1, k2, k3, k4, k6⟩ := ok
  have := lp_cnt (b := fX1_called_b4 ln (zrp A) la HO AT TO WE) (r := bs 9 (cs0 A)) (n := zN A) (FUlt (by omega)) (fun k => (bs 9 (csk A k), Int32.ofNat k)) (fun k hk => by
    obtain ⟨b1, b2, b3, b4, b5, b6, b7, b8⟩ := k6 k hk
    have g1 : (Int32.ofNat (zN A) ≤ Int32.ofNat k) = (zN A ≤ k) := q_le (by omega) (by omega)
    have g2 : (Int32.ofNat (zH A k) = 0) = (zH A k = 0) := q_eq (c := 0) (by omega) (by omega)
    have g3 : (Int32.ofNat (zH A k) = 1) = (zH A k = 1) := q_eq (c := 1) (by omega) (by omega)
    have k7 : k < 6 := by omega
    have n1 : ¬ zN A ≤ k := by omega
    have k8 : zT A k < 9 := by omega
    have k9 : zA A k < 9 := by omega
    simp only [fX1_called_b4, fX1_many, hl, Option.bind_some, g1, if_neg n1, rdn k7 (show 6 ≤ 2147483648 by omega), hO k hk, hAT k hk, hTO k hk, hWE k hk, g2, g3, o1]
    by_cases c1 : zH A k = 1
    · have c2 : ¬ zH A k = 0 := by omega
      simp only [if_pos c1, if_neg c2, Option.bind_some]
      rw [bs9_add (q := csk A (k + 1)) k8 (fun f => by simp [csk, an, c1, beqc f])]
    · simp only [if_neg c1, Option.bind_some]
      by_cases c2 : zH A k = 0
      · by_cases c3 : zrp A < Int32.ofNat (zX A k)
        · simp only [if_pos c2, if_pos c3]
          rw [bs_congr (p := csk A k) (q := csk A (k + 1)) (fun f _ => by simp [csk, an, c2, c3])]
        · simp only [if_pos c2, if_neg c3]
          rw [bs9_add (q := csk A (k + 1)) k9 (fun f => by simp [csk, an, c2, c3, beqc f])]
      · simp only [if_neg c2]
        rw [bs_congr (p := csk A k) (q := csk A (k + 1)) (fun f _ => by simp [csk, an, c1, c2])]) (by
    simp only [fX1_called_b4, fX1_many, hl, Option.bind_some, if_pos (yle (a := zN A) (b := zN A) (by omega) (by omega) (Nat.le_refl _))]
    rfl)
  rw [csk_zero] at this
  refine (congrArg (fun z => Option.bind z fun r1 => some (r1 &&& (((1 : Int32) <<< (Int32.ofNat (zC A) &&& 31)) ^^^ (-1)))) this).trans ?_
  rw [Option.bind_some, go9_mask (cs0 A) (by omega)]
  rfl
theorem up_eq (A : AH) : an 9 (fun f => decide (zC A ≤ f) && cst A f) = gU A := by
  refine an_congr (fun k hk => ?_)
  by_cases e : k = zC A
  · subst e; simp [cst]
  · have : decide (zC A ≤ k) = decide (zC A < k) := by
      by_cases h : zC A < k
      · simp [h]; omega
      · simp [h]; omega
    rw [this]
theorem c_up {c : Nat} : Int32.ofNat c + ((2 * (1 : Int32)) - 1) = Int32.ofNat (c + 1) := by
  rw [show (2 * (1 : Int32)) - 1 = 1 from by decide, o1]
theorem c_dn9 : ∀ c : Fin 9, c.val ≠ 0 → Int32.ofNat c.val + ((2 * (0 : Int32)) - 1) = Int32.ofNat (c.val - 1) := by decide +kernel
theorem c_dn {c : Nat} (h : c < 9) (h0 : c ≠ 0) : Int32.ofNat c + ((2 * (0 : Int32)) - 1) = Int32.ofNat (c - 1) := c_dn9 ⟨c, h⟩ h0
theorem c_dm9 : ∀ c : Fin 9, c.val ≠ 0 → Int32.ofNat c.val + (-1 : Int32) = Int32.ofNat (c.val - 1) := by decide +kernel
theorem c_dm {c : Nat} (h : c < 9) (h0 : c ≠ 0) : Int32.ofNat c + (-1 : Int32) = Int32.ofNat (c - 1) := c_dm9 ⟨c, h⟩ h0
theorem gD_pos {A : AH} (h : gD A = true) : zC A ≠ 0 := by
  obtain ⟨k, h1, h2⟩ := an_iff.mp h
  simp only [Bool.and_eq_true, decide_eq_true_eq] at h2
  omega
theorem goes_core {a b : Int32} {C Y : Nat} (hC : C < 9) (hY : Y ≤ 1) {U D : Bool} (u1 : (a = 0) = (U = false)) (u2 : (b = 0) = (D = false)) (hd : D = true → C ≠ 0) :
    (if a = 0 then if b = 0 then some ((0 : Int32), Int32.ofNat C, Int32.ofNat Y) else (if Int32.ofNat Y = 1 then some a else some b : Option Int32).bind fun j3 => (if j3 = 0 then some (1 - Int32.ofNat Y) else some (Int32.ofNat Y) : Option Int32).bind fun j4 => some (1, Int32.ofNat C + ((2 * j4) - 1), j4)
      else (if Int32.ofNat Y = 1 then some a else some b : Option Int32).bind fun j5 => (if j5 = 0 then some (1 - Int32.ofNat Y) else some (Int32.ofNat Y) : Option Int32).bind fun j6 => some (1, Int32.ofNat C + ((2 * j6) - 1), j6)) =
    some (if U || D then 1 else 0, Int32.ofNat (if U || D then (if (if Y = 1 then (if U then 1 else 0) else (if D then 0 else 1)) = 1 then C + 1 else C - 1) else C), Int32.ofNat (if U || D then (if Y = 1 then (if U then 1 else 0) else (if D then 0 else 1)) else Y)) := by
  have z1 : Int32.ofNat 1 = 1 := rfl
  have z0 : Int32.ofNat 0 = 0 := rfl
  have z2 : ¬ (0 : Int32) = 1 := by decide
  have z3 : (1 : Int32) - 1 = 0 := by decide
  have z4 : (1 : Int32) - 0 = 1 := by decide
  have z5 : ¬ (1 : Int32) = 0 := by decide
  rcases (show Y = 0 ∨ Y = 1 by omega) with rfl | rfl <;> cases U <;> cases D
  · have ha : a = 0 := u1.mpr rfl
    have hb : b = 0 := u2.mpr rfl
    simp [ha, hb]
  · have ha : a = 0 := u1.mpr rfl
    have hb : ¬ b = 0 := fun h => Bool.noConfusion (Eq.mp u2 h)
    simp [ha, hb, z0, z2, c_dm hC (hd rfl)]
  · have ha : ¬ a = 0 := fun h => Bool.noConfusion (Eq.mp u1 h)
    have hb : b = 0 := u2.mpr rfl
    simp [ha, hb, z0, z1, z2, z4, c_up]
  · have ha : ¬ a = 0 := fun h => Bool.noConfusion (Eq.mp u1 h)
    have hb : ¬ b = 0 := fun h => Bool.noConfusion (Eq.mp u2 h)
    simp [ha, hb, z0, z2, c_dm hC (hd rfl)]
  · have ha : a = 0 := u1.mpr rfl
    have hb : b = 0 := u2.mpr rfl
    simp [ha, hb]
  · have ha : a = 0 := u1.mpr rfl
    have hb : ¬ b = 0 := fun h => Bool.noConfusion (Eq.mp u2 h)
    simp [ha, hb, z0, z1, z3, c_dm hC (hd rfl)]
  · have ha : ¬ a = 0 := fun h => Bool.noConfusion (Eq.mp u1 h)
    have hb : b = 0 := u2.mpr rfl
    simp [ha, hb, z1, c_up]
  · have ha : ¬ a = 0 := fun h => Bool.noConfusion (Eq.mp u1 h)
    have hb : ¬ b = 0 := fun h => Bool.noConfusion (Eq.mp u2 h)
    simp [ha, hb, z1, c_up]
theorem goA_C (A : AH) : zC (goA A) = if gU A || gD A then (if gY A = 1 then zC A + 1 else zC A - 1) else zC A := by
  unfold goA gW
  split <;> rfl
theorem goA_Y (A : AH) : zY (goA A) = if gU A || gD A then gY A else zY A := by
  unfold goA gW
  split <;> rfl
theorem goes_eq (hl : ln la = some (Int32.ofNat (zN A))) (ok : OK A) (hO : ∀ k, k < zN A → HO k = Int32.ofNat (zH A k)) (hAT : ∀ k, k < zN A → AT k = Int32.ofNat (zA A k)) (hTO : ∀ k, k < zN A → TO k = Int32.ofNat (zT A k)) (hWE : ∀ k, k < zN A → WE k = Int32.ofNat (zX A k)) :
    fX1_goes ln (zrp A) (Int32.ofNat (zC A)) (Int32.ofNat (zY A)) la HO AT TO WE = some (if gW A then 1 else 0, Int32.ofNat (zC (goA A)), Int32.ofNat (zY (goA A))) := by
  have hc := called_eq hl ok hO hAT hTO hWE
  obtain ⟨k1, k2, k3, k4, k6⟩ := ok
  have hC9 : zC A < 9 := by omega
  have u1 := (go9_up (cst A) hC9).1
  have u2 := (go9_dn (cst A) hC9).1
  rw [up_eq] at u1
  unfold fX1_goes
  rw [hc]
  rw [goA_C, goA_Y]
  exact goes_core hC9 k4 u1 u2 gD_pos
/-! cooling -/
theorem f4_heat : ∀ g : Fin 61, fX4_heatBehind (Int32.ofNat g.val) = some (Int32.ofNat (g.val - 1)) := by decide +kernel
theorem f7_heat : ∀ g : Fin 61, fX7_heatBehind (Int32.ofNat g.val) = some (Int32.ofNat (if g.val + 1 < 60 then g.val + 1 else 60)) := by decide +kernel
theorem i_odd {M : Nat} (h : M < 2147483648) : Int32.ofNat M - Int32.ofNat M / 2 * 2 = Int32.ofNat (M % 2) := by
  rw [show (2 : Int32) = Int32.ofNat 2 from rfl, ← Int32.ofNat_div h (by decide), ← Int32.ofNat_mul, ← Int32.ofNat_sub _ _ (by omega)]
  congr 1
  omega
theorem heat_eq {e K M g : Nat} (hk : dk e = some K) (hK : K < 5) (hg : g ≤ 60) (hM : M < 1000000) : fdish_heatBehind dk e (Int32.ofNat g) (Int32.ofNat M) = some (Int32.ofNat (hB K M g)) := by
  have a4 := f4_heat ⟨g, by omega⟩
  have a7 := f7_heat ⟨g, by omega⟩
  dsimp only at a4 a7
  have a6 : fX6_heatBehind (Int32.ofNat g) (Int32.ofNat M) = some (Int32.ofNat (if M % 2 = 0 then g else g - 1)) := by
    unfold fX6_heatBehind
    rw [i_odd (by omega), a4]
    have q : (Int32.ofNat (M % 2) = 0) = (M % 2 = 0) := q_eq (c := 0) (by omega) (by omega)
    simp only [q, Option.bind_some]
    split <;> rfl
  unfold fdish_heatBehind
  rw [hk, Option.bind_some]
  rcases (show K = 0 ∨ K = 1 ∨ K = 2 ∨ K = 3 ∨ K = 4 by omega) with rfl | rfl | rfl | rfl | rfl
  · exact a4
  · exact a4
  · exact a6
  · exact a7
  · exact a7
theorem f5_wt : ∀ x : Fin 10, 1 ≤ x.val → (fX5_weightBehind (Int32.ofNat x.val) 0 = some (Int32.ofNat x.val) ∧ fX5_weightBehind (Int32.ofNat x.val) 1 = some (Int32.ofNat (if x.val ≤ 1 then 1 else x.val - 1))) := by decide +kernel
theorem f8_wt : ∀ x : Fin 10, ∀ g : Fin 61, 1 ≤ x.val → fX8_weightBehind (Int32.ofNat x.val) (Int32.ofNat g.val) = some (Int32.ofNat (if 10 ≤ g.val then (if x.val ≤ 1 then 1 else x.val - 1) else x.val)) := by decide +kernel
theorem weight_eq {e K x g : Nat} {mv : Bool} (hk : dk e = some K) (hK : K < 5) (hx : 1 ≤ x) (hx9 : x ≤ 9) (hg : g ≤ 60) : fdish_weightBehind dk e (Int32.ofNat x) (Int32.ofNat g) (if mv then 1 else 0) = some (Int32.ofNat (wB K x g mv)) := by
  have a5 := f5_wt ⟨x, by omega⟩ hx
  have a8 := f8_wt ⟨x, by omega⟩ ⟨g, by omega⟩ hx
  dsimp only at a5 a8
  unfold fdish_weightBehind
  rw [hk, Option.bind_some]
  rcases (show K = 0 ∨ K = 1 ∨ K = 2 ∨ K = 3 ∨ K = 4 by omega) with rfl | rfl | rfl | rfl | rfl
  · simp [wB, fX3_weightBehind]
  · cases mv
    · simpa [wB] using a5.1
    · simpa [wB] using a5.2
  · simp [wB, fX3_weightBehind]
  · simp [wB, fX3_weightBehind]
  · simpa [wB] using a8
theorem hB_le {K M g : Nat} (h : g ≤ 60) : hB K M g ≤ 60 := by
  unfold hB
  repeat' split
  all_goals omega
theorem cG_le (ok : OK A) {k : Nat} (hk : k < zN A) : cG A k ≤ 60 := by
  have := ok.2.2.2.2 k hk
  unfold cG
  split
  · omega
  · exact hB_le (by omega)
theorem cools_eq {tf : Int32} {tk : Option Nat} (w : Bool) (k5 : zM A < 1000000) (hl : ln la = some (Int32.ofNat (zN A))) (ok : OK A) (hO : ∀ k, k < zN A → HO k = Int32.ofNat (zH A k)) (hWE : ∀ k, k < zN A → WE k = Int32.ofNat (zX A k)) (hHE : ∀ k, k < zN A → HE k = Int32.ofNat (zG A k)) (hdi : ∀ k, k < zN A → ∃ e, fX1_dish ln lf dk la tf tk (Int32.ofNat k) = some e ∧ dk e = some (zK A k)) :
    ∃ we he, fX1_cools ln lf dk la (Int32.ofNat (zM A)) tf tk HO WE HE (if w then 1 else 0) = some (Int32.ofNat (zM A + 1), we, he) ∧ (∀ j, j < zN A → we j = Int32.ofNat (cX A w j)) ∧ ∀ j, j < zN A → he j = Int32.ofNat (cG A j) := by
  have ok' := ok
  obtain ⟨k1, k2, k3, k4, k6⟩ := ok
  obtain ⟨r, hr, hQ⟩ := lp_inv (b := fX1_cools_b2 ln lf dk la (Int32.ofNat (zM A)) tf tk HO (if w then 1 else 0)) (s := (0, WE, HE)) (fun k s => s.1 = Int32.ofNat k ∧ (∀ j, j < zN A → s.2.1 j = Int32.ofNat (if j < k then cX A w j else zX A j)) ∧ ∀ j, j < zN A → s.2.2 j = Int32.ofNat (if j < k then cG A j else zG A j)) (fun r => (∀ j, j < zN A → r.1 j = Int32.ofNat (cX A w j)) ∧ ∀ j, j < zN A → r.2 j = Int32.ofNat (cG A j)) (zN A) (FUlt (by omega)) (fun k hk s hI => by
    obtain ⟨i, f, g⟩ := s
    obtain ⟨h1, h2, h3⟩ := hI
    dsimp only at h1 h2 h3
    subst h1
    by_cases hlt : k < zN A
    · left
      obtain ⟨b1, b2, b3, b4, b5, b6, b7, b8⟩ := k6 k hlt
      obtain ⟨e, he, hke⟩ := hdi k hlt
      have hfk : f k = Int32.ofNat (zX A k) := by rw [h2 k hlt, if_neg (by omega)]
      have hgk : g k = Int32.ofNat (zG A k) := by rw [h3 k hlt, if_neg (by omega)]
      have g1 : (Int32.ofNat (zN A) ≤ Int32.ofNat k) = (zN A ≤ k) := q_le (by omega) (by omega)
      have g2 : (Int32.ofNat (zH A k) = 2) = (zH A k = 2) := q_eq (c := 2) (by omega) (by omega)
      have g3 : (Int32.ofNat (zH A k) = 1) = (zH A k = 1) := q_eq (c := 1) (by omega) (by omega)
      have k7 : k < 6 := by omega
      have n1 : ¬ zN A ≤ k := by omega
      have h6 : 6 ≤ 2147483648 := by omega
      by_cases c1 : zH A k = 2
      · refine ⟨hlt, (Int32.ofNat (k + 1), f, g), ?_, rfl, seq_keep h2 (by simp [cX, c1]), seq_keep h3 (by simp [cG, c1])⟩
        simp only [fX1_cools_b2, fX1_many, hl, Option.bind_some, g1, if_neg n1, rdn k7 h6, hO k hlt, g2, if_pos c1, o1]
      · have eG : cG A k = hB (zK A k) (zM A) (zG A k) := by simp [cG, c1]
        have hG := heat_eq (g := zG A k) (M := zM A) hke b1 b7 k5
        rw [← eG] at hG
        have hle := cG_le ok' hlt
        have hW := weight_eq (x := zX A k) (g := cG A k) (mv := w && zH A k == 1) hke b1 b5 b6 hle
        have eX : cX A w k = wB (zK A k) (zX A k) (cG A k) (w && zH A k == 1) := by simp [cX, c1]
        rw [← eX] at hW
        refine ⟨hlt, (Int32.ofNat (k + 1), upd f k (Int32.ofNat (cX A w k)), upd g k (Int32.ofNat (cG A k))), ?_, rfl, seq_upd h2 rfl, seq_upd h3 rfl⟩
        have ej : (if (if w then (1 : Int32) else 0) = 0 then some 0 else (some (HO k)).bind fun v14 => if v14 = 1 then some 1 else some 0 : Option Int32) = some (if w && zH A k == 1 then 1 else 0) := by
          rw [hO k hlt]
          cases w
          · simp
          · simp only [if_true, Option.bind_some, g3, Bool.true_and, beq_iff_eq, show ¬ (1 : Int32) = 0 from by decide, if_false]
            split <;> rfl
        simp only [fX1_cools_b2, fX1_many, hl, Option.bind_some, g1, if_neg n1, rdn k7 h6, wrn k7 h6, upd_same, he, hgk, hfk, hG, ← ej]
        simp only [hO k hlt, g2, if_neg c1, Option.bind_some] at ej ⊢
        rw [ej]
        simp only [Option.bind_some, hW, wrn k7 h6, o1]
    · right
      have : k = zN A := by omega
      subst this
      refine ⟨(f, g), ?_, fun j hj => by show f j = _; rw [h2 j hj, if_pos hj], fun j hj => by show g j = _; rw [h3 j hj, if_pos hj]⟩
      simp only [fX1_cools_b2, fX1_many, hl, Option.bind_some, if_pos (yle (a := zN A) (b := zN A) (by omega) (by omega) (Nat.le_refl _))]) ⟨rfl, fun j hj => by rw [if_neg (by omega)]; exact hWE j hj, fun j hj => by rw [if_neg (by omega)]; exact hHE j hj⟩
  refine ⟨r.1, r.2, ?_, hQ.1, hQ.2⟩
  unfold fX1_cools
  rw [hr, Option.bind_some, o1]
end SYS
theorem goA_N (A : AH) : zN (goA A) = zN A := by unfold goA; split <;> rfl
theorem goA_F (A : AH) : zF (goA A) = zF A := by unfold goA; split <;> rfl
theorem goA_M (A : AH) : zM (goA A) = zM A := by unfold goA; split <;> rfl
theorem goA_ro (A : AH) : zro (goA A) = zro A := by unfold goA; split <;> rfl
theorem goA_rp (A : AH) : zrp (goA A) = zrp A := by unfold goA; split <;> rfl
theorem goA_K (A : AH) : zK (goA A) = zK A := by unfold goA; split <;> rfl
theorem goA_H (A : AH) : zH (goA A) = zH A := by unfold goA; split <;> rfl
theorem goA_A (A : AH) : zA (goA A) = zA A := by unfold goA; split <;> rfl
theorem goA_T (A : AH) : zT (goA A) = zT A := by unfold goA; split <;> rfl
theorem goA_X (A : AH) : zX (goA A) = zX A := by unfold goA; split <;> rfl
theorem goA_G (A : AH) : zG (goA A) = zG A := by unfold goA; split <;> rfl
theorem goA_Q (A : AH) : zQ (goA A) = zQ A := by unfold goA; split <;> rfl
theorem OK.st {A : AH} (ok : OK A) : OK (stA A) := by
  have ok' := ok
  obtain ⟨k1, k2, k3, k4, k6⟩ := ok
  refine ⟨k1, k2, k3, k4, fun k hk => ?_⟩
  obtain ⟨b1, b2, b3, b4, b5, b6, b7, b8⟩ := k6 k hk
  exact ⟨b1, s2_le ok' _ hk, b3, b4, b5, b6, b7, b8⟩
theorem cst_lt {A : AH} (ok : OK A) {f : Nat} (h : cst A f = true) : f < zF A := by
  obtain ⟨k1, k2, k3, k4, k6⟩ := ok
  simp only [cst, cs0, Bool.and_eq_true] at h
  obtain ⟨d, h1, h2⟩ := an_iff.mp h.1
  obtain ⟨b1, b2, b3, b4, b5, b6, b7, b8⟩ := k6 d h1
  simp only [Bool.or_eq_true, Bool.and_eq_true, beq_iff_eq] at h2
  rcases h2 with h2 | h2
  · omega
  · omega
theorem OK.go {A : AH} (ok : OK A) : OK (goA A) := by
  have ok' := ok
  obtain ⟨k1, k2, k3, k4, k6⟩ := ok
  refine ⟨by rw [goA_N]; exact k1, by rw [goA_F]; exact k2, ?_, ?_, ?_⟩
  · rw [goA_C, goA_F]
    split
    · next hw =>
      split
      · next hy =>
        have hU : gU A = true := by
          unfold gY at hy
          by_cases h1 : zY A = 1
          · rw [if_pos h1] at hy
            cases h : gU A
            · rw [h] at hy; simp at hy
            · rfl
          · rw [if_neg h1] at hy
            cases h : gU A
            · rw [h] at hw
              cases h' : gD A
              · rw [h'] at hw; simp at hw
              · rw [h'] at hy; simp at hy
            · rfl
        obtain ⟨f, h1, h2⟩ := an_iff.mp hU
        simp only [Bool.and_eq_true, decide_eq_true_eq] at h2
        have := cst_lt ok' h2.2
        omega
      · omega
    · exact k3
  · rw [goA_Y]
    split
    · unfold gY
      repeat' split
      all_goals omega
    · exact k4
  · rw [goA_N, goA_K, goA_H, goA_A, goA_T, goA_X, goA_G, goA_Q, goA_F]
    exact k6
theorem OK.co {A : AH} (ok : OK A) (w : Bool) : OK (coA A w) := by
  have ok' := ok
  obtain ⟨k1, k2, k3, k4, k6⟩ := ok
  refine ⟨k1, k2, k3, k4, fun k hk => ?_⟩
  obtain ⟨b1, b2, b3, b4, b5, b6, b7, b8⟩ := k6 k hk
  have hx : 1 ≤ cX A w k ∧ cX A w k ≤ 9 := by
    unfold cX wB
    repeat' split
    all_goals omega
  exact ⟨b1, b2, b3, b4, hx.1, hx.2, cG_le ok' hk, b8⟩
theorem OK.pa {A : AH} (ok : OK A) : OK (pa A) := (ok.st.go).co _
theorem pa_N (A : AH) : zN (pa A) = zN A := goA_N _
theorem pa_F (A : AH) : zF (pa A) = zF A := goA_F _
theorem pa_M (A : AH) : zM (pa A) = zM A + 1 := congrArg (· + 1) (goA_M (stA A))
section SYS2
variable {ln : Nat → Option Int32} {lf : Nat → Nat → Option Nat} {dk : Nat → Option Nat}
theorem pass_eq {v : HV} {A : AH} (ok : OK A) (hM : zM A < 1000000) (hS : SR ln lf dk v A) : ∃ v', gX1_pass ln lf dk v = some v' ∧ SR ln lf dk v' (pa A) ∧ Hla v' = Hla v ∧ Htf v' = Htf v ∧ Htk v' = Htk v := by
  obtain ⟨e1, e2, e3, e4, e5, e6, e7, e8⟩ := hS
  obtain ⟨r1, hr1, q1⟩ := stops1_eq (la := Hla v) (AT := HAT v) (TO := HTO v) e1 ok (fun k hk => (e8 k hk).1) (fun k hk => (e8 k hk).2.1) (fun k hk => (e8 k hk).2.2.1)
  obtain ⟨r2, hr2, q2⟩ := stops2_eq (la := Hla v) (AT := HAT v) (WE := HWE v) (RA := HRA v) e1 ok q1 (fun k hk => (e8 k hk).2.1) (fun k hk => (e8 k hk).2.2.2.1) (fun k hk => (e8 k hk).2.2.2.2.2.1)
  have hs : fX1_stops ln (Hro v) (Hrp v) (Hca v) (Hla v) (HHO v) (HAT v) (HTO v) (HWE v) (HRA v) = some r2 := by
    unfold fX1_stops
    rw [e5, e3, e4, hr1, Option.bind_some, hr2]
    rfl
  have hg := goes_eq (A := stA A) (la := Hla v) (HO := r2) (AT := HAT v) (TO := HTO v) (WE := HWE v) e1 ok.st q2 (fun k hk => (e8 k hk).2.1) (fun k hk => (e8 k hk).2.2.1) (fun k hk => (e8 k hk).2.2.2.1)
  obtain ⟨we, he, hc, q3, q4⟩ := cools_eq (A := goA (stA A)) (lf := lf) (dk := dk) (la := Hla v) (HO := r2) (WE := HWE v) (HE := HHE v) (tf := Htf v) (tk := Htk v) (gW (stA A)) (by rw [goA_M]; exact hM) (by rw [goA_N]; exact e1) ok.st.go (by rw [goA_N, goA_H]; exact q2) (by rw [goA_N, goA_X]; exact fun k hk => (e8 k hk).2.2.2.1) (by rw [goA_N, goA_G]; exact fun k hk => (e8 k hk).2.2.2.2.1) (by rw [goA_N, goA_K]; exact fun k hk => (e8 k hk).2.2.2.2.2.2)
  have hg : fX1_goes ln (Hrp v) (Hca v) (Hwy v) (Hla v) r2 (HAT v) (HTO v) (HWE v) = some (if gW (stA A) then 1 else 0, Int32.ofNat (zC (goA (stA A))), Int32.ofNat (zY (goA (stA A)))) := by rw [e4, e5, e6]; exact hg
  rw [goA_M] at hc
  have hc : fX1_cools ln lf dk (Hla v) (Hmi v) (Htf v) (Htk v) r2 (HWE v) (HHE v) (if gW (stA A) then 1 else 0) = some (Int32.ofNat (zM (stA A) + 1), we, he) := by rw [e7]; exact hc
  have hp : fX1_pass ln lf dk (Hro v) (Hrp v) (Hca v) (Hwy v) (Hla v) (Hmi v) (Htf v) (Htk v) (HHO v) (HAT v) (HTO v) (HWE v) (HHE v) (HRA v) = some (Int32.ofNat (zC (goA (stA A))), Int32.ofNat (zY (goA (stA A))), Int32.ofNat (zM A + 1), r2, we, he) := by
    unfold fX1_pass
    rw [hs, Option.bind_some, hg, Option.bind_some, hc, Option.bind_some]
    rfl
  refine ⟨(Hfl v, Hro v, Hrp v, Int32.ofNat (zC (goA (stA A))), Int32.ofNat (zY (goA (stA A))), Hla v, r2, HAT v, HTO v, we, he, HRA v, Int32.ofNat (zM A + 1), Htf v, Htk v), ?_, ?_, rfl, rfl, rfl⟩
  · unfold gX1_pass
    rw [hp]
    rfl
  · refine ⟨by rw [pa_N]; exact e1, by rw [pa_F]; exact e2, ?_, ?_, rfl, rfl, by rw [pa_M]; rfl, ?_⟩
    · show Hro v = zro (goA (stA A))
      rw [goA_ro]; exact e3
    · show Hrp v = zrp (goA (stA A))
      rw [goA_rp]; exact e4
    · rw [pa_N]
      intro k hk
      obtain ⟨b1, b2, b3, b4, b5, b6, b7⟩ := e8 k hk
      refine ⟨?_, ?_, ?_, ?_, ?_, ?_, ?_⟩
      · show r2 k = Int32.ofNat (zH (goA (stA A)) k)
        rw [goA_H]; exact q2 k hk
      · show HAT v k = Int32.ofNat (zA (goA (stA A)) k)
        rw [goA_A]; exact b2
      · show HTO v k = Int32.ofNat (zT (goA (stA A)) k)
        rw [goA_T]; exact b3
      · exact q3 k (by rw [goA_N]; exact hk)
      · exact q4 k (by rw [goA_N]; exact hk)
      · show HRA v k = Int32.ofNat (zQ (goA (stA A)) k)
        rw [goA_Q]; exact b6
      · show ∃ e, gX1_dish ln lf dk _ (Int32.ofNat k) = some e ∧ dk e = some (zK (goA (stA A)) k)
        rw [goA_K]; exact b7
theorem sticks_eq {v : HV} {A : AH} (ok : OK A) (hM : zM A < 1000000) (hS : SR ln lf dk v A) : ∃ v', gX1_sticks ln lf dk v = some v' ∧ SR ln lf dk v' (coA A false) ∧ Hla v' = Hla v ∧ Htf v' = Htf v ∧ Htk v' = Htk v := by
  obtain ⟨e1, e2, e3, e4, e5, e6, e7, e8⟩ := hS
  obtain ⟨we, he, hc, q3, q4⟩ := cools_eq (A := A) (lf := lf) (dk := dk) (la := Hla v) (HO := HHO v) (WE := HWE v) (HE := HHE v) (tf := Htf v) (tk := Htk v) false hM e1 ok (fun k hk => (e8 k hk).1) (fun k hk => (e8 k hk).2.2.2.1) (fun k hk => (e8 k hk).2.2.2.2.1) (fun k hk => (e8 k hk).2.2.2.2.2.2)
  have hc : fX1_cools ln lf dk (Hla v) (Hmi v) (Htf v) (Htk v) (HHO v) (HWE v) (HHE v) 0 = some (Int32.ofNat (zM A + 1), we, he) := by rw [e7]; exact hc
  refine ⟨(Hfl v, Hro v, Hrp v, Hca v, Hwy v, Hla v, HHO v, HAT v, HTO v, we, he, HRA v, Int32.ofNat (zM A + 1), Htf v, Htk v), ?_, ?_, rfl, rfl, rfl⟩
  · unfold gX1_sticks fX1_sticks
    rw [hc]
    rfl
  · refine ⟨e1, e2, e3, e4, e5, e6, rfl, fun k hk => ?_⟩
    obtain ⟨b1, b2, b3, b4, b5, b6, b7⟩ := e8 k hk
    exact ⟨b1, b2, b3, q3 k hk, q4 k hk, b6, b7⟩
end SYS2
