/-! THE PLAIN LAW 11: holds -/
set_option maxRecDepth 100000
def dj (s : Nat) (p : Nat → Bool) : Bool := !(an 6 (fun k => s.testBit k && p k))
def bn : Nat → (Nat → Bool) → Nat
  | 0, _ => 0
  | n + 1, p => bn n p + (if p n then 2 ^ n else 0)
theorem bn_congr {p q : Nat → Bool} : ∀ {n : Nat}, (∀ k, k < n → p k = q k) → bn n p = bn n q
  | 0, _ => rfl
  | n + 1, h => by unfold bn; rw [bn_congr (fun k hk => h k (by omega)), h n (by omega)]
theorem dj_congr {s : Nat} {p q : Nat → Bool} (h : ∀ k, k < 6 → p k = q k) : dj s p = dj s q := by
  unfold dj
  rw [an_congr (p := fun k => s.testBit k && p k) (q := fun k => s.testBit k && q k) (fun k hk => by rw [h k hk])]
theorem hd1 : ∀ s : Fin 64, ∀ b0 b1 b2 b3 b4 b5 : Bool, decide ((Int32.ofNat s.val &&& bs 6 (pl b0 b1 b2 b3 b4 b5)) = 0) = dj s.val (pl b0 b1 b2 b3 b4 b5) := by decide +kernel
theorem hd2 : ∀ s : Fin 64, ∀ b0 b1 b2 b3 b4 b5 : Bool, decide ((Int32.ofNat s.val &&& (bs 6 (pl b0 b1 b2 b3 b4 b5) ^^^ (-1))) = 0) = dj s.val (fun k => !pl b0 b1 b2 b3 b4 b5 k) := by decide +kernel
theorem hd3 : ∀ b0 b1 b2 b3 b4 b5 : Bool, bs 6 (pl b0 b1 b2 b3 b4 b5) = Int32.ofNat (bn 6 (pl b0 b1 b2 b3 b4 b5)) := by decide +kernel
theorem hd4 : ∀ s : Fin 64, ∀ b0 b1 b2 b3 b4 b5 : Bool, dj s.val (fun k => !pl b0 b1 b2 b3 b4 b5 k) = true → s.val ≤ bn 6 (pl b0 b1 b2 b3 b4 b5) := by decide +kernel
theorem hd5 : ∀ s : Fin 64, bs 6 (fun k => s.val.testBit k) = Int32.ofNat s.val := by decide +kernel
theorem hd6 : ∀ n : Fin 7, ((1 : Int32) <<< (Int32.ofNat n.val &&& 31)) = Int32.ofNat (2 ^ n.val) := by decide +kernel
theorem bs_or2 {p q : Nat → Bool} : ∀ n, bs n p ||| bs n q = bs n (fun k => p k || q k)
  | 0 => by show (0 : Int32) ||| 0 = 0; decide
  | n + 1 => by
    unfold bs
    rw [← bs_or2 n]
    have h : ∀ a b c d : Int32, (a ||| b) ||| (c ||| d) = (a ||| c) ||| (b ||| d) := fun a b c d => by
      rw [Int32.or_assoc, Int32.or_assoc, ← Int32.or_assoc b c d, Int32.or_comm b c, Int32.or_assoc c b d]
    rw [h]
    show _ ||| _ = _ ||| (if (p n || q n) then _ else _)
    cases p n <;> cases q n <;> simp
theorem pw6 {n : Nat} (hn : n ≤ 6) : 2 ^ n ≤ 64 := by
  have : n = 0 ∨ n = 1 ∨ n = 2 ∨ n = 3 ∨ n = 4 ∨ n = 5 ∨ n = 6 := by omega
  rcases this with rfl | rfl | rfl | rfl | rfl | rfl | rfl <;> decide
theorem tb_hi {s n k : Nat} (hs : s < 2 ^ n) (hk : n ≤ k) : s.testBit k = false :=
  Nat.testBit_lt_two_pow (Nat.lt_of_lt_of_le hs (Nat.pow_le_pow_right (by decide) hk))
/-- a set of n as its bits -/
theorem bs_tb {s n : Nat} (hn : n ≤ 6) (hs : s < 2 ^ n) : bs n (fun k => s.testBit k) = Int32.ofNat s := by
  obtain ⟨m, hm⟩ : ∃ m, n + m = 6 := ⟨6 - n, by omega⟩
  have e1 := bs_pad (p := fun k => s.testBit k) (n := n) m
  rw [hm] at e1
  have h6 := hd5 ⟨s, Nat.lt_of_lt_of_le hs (pw6 hn)⟩
  rw [← e1, ← h6]
  exact bs_congr (fun k _ => by
    by_cases hk : k < n
    · simp [hk]
    · simp [hk, tb_hi hs (Nat.le_of_not_lt hk)])
theorem pl_of (q : Nat → Bool) : bs 6 (pl (q 0) (q 1) (q 2) (q 3) (q 4) (q 5)) = bs 6 q := bs_congr (fun k hk => (pl_eq k hk).symm)
theorem set_dis {s n : Nat} {p : Nat → Bool} (hn : n ≤ 6) (hs : s < 2 ^ n) : ((Int32.ofNat s &&& bs n p) = 0) = (dj s (fun k => decide (k < n) && p k) = true) := by
  obtain ⟨m, hm⟩ : ∃ m, n + m = 6 := ⟨6 - n, by omega⟩
  have e1 := bs_pad (p := p) (n := n) m
  rw [hm] at e1
  rw [← e1]
  generalize (fun k => decide (k < n) && p k) = q
  have h := hd1 ⟨s, Nat.lt_of_lt_of_le hs (pw6 hn)⟩ (q 0) (q 1) (q 2) (q 3) (q 4) (q 5)
  rw [pl_of, dj_congr (q := q) (fun k hk => (pl_eq k hk).symm)] at h
  dsimp only at h
  rw [← h]
  exact propext (by simp)
theorem set_sub {s n : Nat} {p : Nat → Bool} (hn : n ≤ 6) (hs : s < 2 ^ n) : ((Int32.ofNat s &&& (bs n p ^^^ (-1))) = 0) = (dj s (fun k => decide (k < n) && !p k) = true) := by
  obtain ⟨m, hm⟩ : ∃ m, n + m = 6 := ⟨6 - n, by omega⟩
  have e1 := bs_pad (p := p) (n := n) m
  rw [hm] at e1
  rw [← e1]
  have e2 : dj s (fun k => decide (k < n) && !p k) = dj s (fun k => !(decide (k < n) && p k)) := by
    unfold dj
    rw [an_congr (p := fun k => s.testBit k && (decide (k < n) && !p k)) (q := fun k => s.testBit k && !(decide (k < n) && p k)) (fun k _ => by
      by_cases hk : k < n
      · simp [hk]
      · simp [hk, tb_hi hs (Nat.le_of_not_lt hk)])]
  rw [e2]
  obtain ⟨q, hq⟩ : ∃ q : Nat → Bool, q = (fun k => decide (k < n) && p k) := ⟨_, rfl⟩
  have e4 : (fun k => !(decide (k < n) && p k)) = (fun k => !q k) := by rw [hq]
  rw [e4, ← hq]
  have h := hd2 ⟨s, Nat.lt_of_lt_of_le hs (pw6 hn)⟩ (q 0) (q 1) (q 2) (q 3) (q 4) (q 5)
  rw [pl_of, dj_congr (q := fun k => !q k) (fun k hk => by rw [pl_eq (p := q) k hk])] at h
  dsimp only at h
  rw [← h]
  exact propext (by simp)
theorem bn_pad {p : Nat → Bool} {n : Nat} : ∀ (m : Nat), bn (n + m) (fun k => decide (k < n) && p k) = bn n p
  | 0 => bn_congr (fun k hk => by have h : k < n := hk; simp [h])
  | m + 1 => by
    show bn (n + m) _ + _ = _
    rw [bn_pad m]
    have h : ¬ n + m < n := by omega
    simp [h]
theorem bs_bn {n : Nat} {p : Nat → Bool} (hn : n ≤ 6) : bs n p = Int32.ofNat (bn n p) := by
  obtain ⟨m, hm⟩ : ∃ m, n + m = 6 := ⟨6 - n, by omega⟩
  have e1 := bs_pad (p := p) (n := n) m
  have e2 := bn_pad (p := p) (n := n) m
  rw [hm] at e1 e2
  rw [← e1, ← e2]
  generalize (fun k => decide (k < n) && p k) = q
  have h := hd3 (q 0) (q 1) (q 2) (q 3) (q 4) (q 5)
  rw [pl_of, bn_congr (q := q) (fun k hk => (pl_eq k hk).symm)] at h
  exact h
theorem sub_le {s n : Nat} {p : Nat → Bool} (hn : n ≤ 6) (hs : s < 2 ^ n) (h : dj s (fun k => decide (k < n) && !p k) = true) : s ≤ bn n p := by
  obtain ⟨m, hm⟩ : ∃ m, n + m = 6 := ⟨6 - n, by omega⟩
  have e2 := bn_pad (p := p) (n := n) m
  rw [hm] at e2
  rw [← e2]
  have e3 : dj s (fun k => !(decide (k < n) && p k)) = true := by
    rw [← h]
    unfold dj
    rw [an_congr (p := fun k => s.testBit k && !(decide (k < n) && p k)) (q := fun k => s.testBit k && (decide (k < n) && !p k)) (fun k _ => by
      by_cases hk : k < n
      · simp [hk]
      · simp [hk, tb_hi hs (Nat.le_of_not_lt hk)])]
  obtain ⟨q, hq⟩ : ∃ q : Nat → Bool, q = (fun k => decide (k < n) && p k) := ⟨_, rfl⟩
  have e4 : (fun k => !(decide (k < n) && p k)) = (fun k => !q k) := by rw [hq]
  rw [e4] at e3
  rw [← hq]
  have h2 := hd4 ⟨s, Nat.lt_of_lt_of_le hs (pw6 hn)⟩ (q 0) (q 1) (q 2) (q 3) (q 4) (q 5)
  rw [dj_congr (q := fun k => !q k) (fun k hk => by rw [pl_eq (p := q) k hk]), bn_congr (q := q) (fun k hk => (pl_eq k hk).symm)] at h2
  exact h2 e3
theorem bn_lt {p : Nat → Bool} : ∀ n, bn n p < 2 ^ n
  | 0 => by simp [bn]
  | n + 1 => by
    have := bn_lt (p := p) n
    unfold bn
    rw [Nat.pow_succ]
    split <;> omega
/-! the count of sets, the best one -/
def Wt (A : AH) (s : Nat) : Nat := sn (zN A) (fun k => if s.testBit k then zX A k else 0)
def Ct (A : AH) (s : Nat) : Nat := cn (zN A) (fun k => s.testBit k)
def hsOk (A : AH) (s : Nat) : Prop := dj s (fun k => decide (k < zN A) && zH A k == 2) = true ∧ ¬ zro A < Int32.ofNat (Ct A s) ∧ ¬ zrp A < Int32.ofNat (Wt A s)
def hsB (A : AH) (s b : Nat) : Nat := if Wt A b < Wt A s then s else if Wt A s = Wt A b then (if Ct A s ≤ Ct A b then b else s) else b
section HO
variable {ln : Nat → Option Int32} {lf : Nat → Nat → Option Nat} {dk : Nat → Option Nat} {hv : HV} {w : Nat → Int32} {A : AH}
theorem Wt_lt (ok : OK A) (s : Nat) : Wt A s ≤ 54 := by
  have h := sn_le (f := fun k => if s.testBit k then zX A k else 0) (b := 9) (zN A) (fun k hk => by
    have := (ok.2.2.2.2 k hk).2.2.2.2.2.1
    split <;> omega)
  have : zN A * 9 ≤ 6 * 9 := Nat.mul_le_mul_right _ ok.1
  exact Nat.le_trans h this
theorem weightS_eq (ok : OK A) (hS : SR ln lf dk hv A) {s : Nat} (hs : s < 2 ^ zN A) : fX0_weightOf ln hv (Int32.ofNat s) = some (Int32.ofNat (Wt A s)) := by
  rw [← bs_tb ok.1 hs]
  have h := sm_sn (fun k => if s.testBit k then zX A k else 0) (zN A)
  have := lp_cnt (b := fX0_weightOf_b4 ln hv (bs (zN A) (fun k => s.testBit k))) (r := Int32.ofNat (Wt A s)) (n := zN A) (FUlt (by have := ok.1; omega)) (fun k => (sm k (fun k => Int32.ofNat (if s.testBit k then zX A k else 0)), Int32.ofNat k)) (fun k hk => by
    have k7 : k < 6 := by have := ok.1; omega
    have hN := ok.1
    unfold fX0_weightOf_b4
    dsimp only
    rw [many_v hS, Option.bind_some, if_neg (nle (a := zN A) (b := k) (by omega) (by omega) hk), show fX0_has (bs (zN A) (fun k => s.testBit k)) (Int32.ofNat k) = _ from has_bs ok.1 (fun k => s.testBit k) hk, Option.bind_some, rdn k7 (by omega), (hS.2.2.2.2.2.2.2 k hk).2.2.2.1, Option.bind_some, o1]
    cases c : s.testBit k
    · simp [sm, c]
    · simp [sm, c]) (by
    have hN := ok.1
    unfold fX0_weightOf_b4
    dsimp only
    rw [many_v hS, Option.bind_some, if_pos (yle (a := zN A) (b := zN A) (by omega) (by omega) (Nat.le_refl _)), h]
    rfl)
  exact congrArg (fun z => Option.bind z fun r1 => some r1) this
theorem weightM_eq (ok : OK A) (hm : MR w 0 A) {s : Nat} (hs : s < 2 ^ zN A) : fX9_weightOf w 0 (Int32.ofNat s) = some (Int32.ofNat (Wt A s)) := by
  rw [← bs_tb ok.1 hs, show fX9_weightOf w 0 (bs (zN A) (fun k => s.testBit k)) = _ from weightOf_eq (r := 0) (x := zX A) (by omega) hm.1 ok.1 (fun k hk => (hm.2.2.2.2.2.2.2 k hk).2.2.2.1)]
  congr 1
  unfold Wt
  rw [← sm_sn]
  exact sm_congr (fun k _ => by split <;> rfl)
theorem onesT (ok : OK A) {s : Nat} (hs : s < 2 ^ zN A) : fX9_ones (Int32.ofNat s) = some (Int32.ofNat (Ct A s)) := by
  rw [← bs_tb ok.1 hs]; exact ones_bs ok.1 _
theorem bitsT (ok : OK A) {s : Nat} (hs : s < 2 ^ zN A) : fJ15_bitCount (Int32.ofNat s) = some (Int32.ofNat (Ct A s)) := by
  rw [← bs_tb ok.1 hs]; exact bits_bs ok.1 _
theorem Ct_le (ok : OK A) (s : Nat) : Ct A s ≤ 6 := Nat.le_trans (cn_le _) ok.1
/-- the loop's states, told -/
def hsF (A : AH) (c : Nat → Bool) : Nat → Int32 × Nat
  | 0 => (0, 0)
  | s + 1 => if c s then ((hsF A c s).1 + 1, hsB A s (hsF A c s).2) else hsF A c s
theorem hsF_lt (c : Nat → Bool) {N : Nat} : ∀ s, s ≤ 2 ^ N → (hsF A c s).2 < 2 ^ N
  | 0, _ => Nat.two_pow_pos N
  | s + 1, h => by
    have := hsF_lt c (N := N) s (by omega)
    unfold hsF
    split
    · unfold hsB
      repeat' split
      all_goals first | exact this | omega
    · exact this
theorem d_pos {a b : Nat} (ha : a ≤ 54) (hb : b ≤ 54) : (0 < Int32.ofNat a - Int32.ofNat b) = (b < a) := by
  have h : ∀ a b : Fin 55, decide (0 < Int32.ofNat a.val - Int32.ofNat b.val) = decide (b.val < a.val) := by decide +kernel
  have := h ⟨a, by omega⟩ ⟨b, by omega⟩
  exact propext (by simpa using this)
theorem d_zero {a b : Nat} (ha : a ≤ 54) (hb : b ≤ 54) : (Int32.ofNat a - Int32.ofNat b = 0) = (a = b) := by
  have h : ∀ a b : Fin 55, decide (Int32.ofNat a.val - Int32.ofNat b.val = 0) = decide (a.val = b.val) := by decide +kernel
  have := h ⟨a, by omega⟩ ⟨b, by omega⟩
  exact propext (by simpa using this)
theorem act_holds (hT : TV ln lf dk hv w) (p1 : Int32) : ∃ ans, fX0_holds ln hv p1 = some ans ∧ fX9_holds w p1 = some ans := by
  rcases hT with hE | ⟨A, hL⟩
  · obtain ⟨h1, h2⟩ := noHouse hE
    refine ⟨-1000002, ?_, ?_⟩
    · unfold fX0_holds
      rw [h1, Option.bind_some, if_pos rfl]
    · unfold fX9_holds
      rw [h2, Option.bind_some, if_pos rfl]
  · obtain ⟨h1, h2⟩ := yesHouse hL
    obtain ⟨hS, hm, ok, hN1, hM, hn⟩ := hL
    have hN := ok.1
    have h64 := pw6 hN
    have e0 : rd w 1247 0 = some (Int32.ofNat (zN A)) := (r0n (c := 0) (by omega)).trans (by rw [show w 0 = _ from hm.1])
    have e2 : rd w 1247 2 = some (zro A) := (r0n (c := 2) (by omega)).trans (by rw [show w 2 = _ from hm.2.2.1])
    have e3 : rd w 1247 3 = some (zrp A) := (r0n (c := 3) (by omega)).trans (by rw [show w 3 = _ from hm.2.2.2.1])
    have hsv : fX9_servedOf w 0 = some (svb A) := servedOf_v (r := 0) (by omega) ok hm
    unfold fX0_holds fX9_holds
    rw [h1, h2, Option.bind_some, Option.bind_some, if_neg (show ¬ (1 : Int32) = 0 by decide), if_neg (show ¬ (1 : Int32) = 0 by decide), in_same, show fX0_isIn p1.toInt64 0 2 = _ from inl_eq p1 0 2 (by omega) (by omega), Option.bind_some, Option.bind_some, g01, g01]
    by_cases c2 : (0 : Nat) ≤ p1.toInt ∧ p1.toInt ≤ (2 : Nat)
    · rw [if_pos c2, if_pos c2, areSo0 ok hS, Option.bind_some, areSo1 ok hS, Option.bind_some]
      have hmay : (bs (zN A) (fun k => zH A k == 0) ||| bs (zN A) (fun k => zH A k == 1)) = bs (zN A) (fun k => !(zH A k == 2)) := by
        rw [bs_or2]
        refine bs_congr (fun k hk => ?_)
        have := (ok.2.2.2.2 k hk).2.1
        rcases (show zH A k = 0 ∨ zH A k = 1 ∨ zH A k = 2 by omega) with h | h | h <;> simp [h]
      have hmb := bs_bn (p := fun k => !(zH A k == 2)) hN
      have hbl := bn_lt (p := fun k => !(zH A k == 2)) (zN A)
      -- the two loops
      let cS : Nat → Bool := fun s => decide (dj s (fun k => decide (k < zN A) && zH A k == 2) = true ∧ ¬ zro A < Int32.ofNat (Ct A s) ∧ ¬ zrp A < Int32.ofNat (Wt A s))
      have hcS : ∀ s, s < 2 ^ zN A → bn (zN A) (fun k => !(zH A k == 2)) < s → cS s = false := by
        intro s hs hlt
        cases hc : cS s
        · rfl
        · exfalso
          have h3 := (of_decide_eq_true hc).1
          have h4 := sub_le (p := fun k => !(zH A k == 2)) hN hs (by
            rw [← h3]
            exact dj_congr (fun k _ => by cases zH A k == 2 <;> simp))
          omega
      have hstab : ∀ s, bn (zN A) (fun k => !(zH A k == 2)) + 1 ≤ s → s ≤ 2 ^ zN A → hsF A cS s = hsF A cS (bn (zN A) (fun k => !(zH A k == 2)) + 1) := by
        intro s
        induction s with
        | zero => intro h; omega
        | succ s ih =>
          intro h1 h2
          by_cases e : s = bn (zN A) (fun k => !(zH A k == 2))
          · rw [e]
          · have := hcS s (by omega) (by omega)
            have h3 : hsF A cS (s + 1) = hsF A cS s := by
              show (if cS s then _ else _) = _
              rw [this]; rfl
            rw [h3]
            exact ih (by omega) (by omega)
      have lS : lp (fX0_holds_b51 ln hv (bs (zN A) (fun k => zH A k == 0)) (bs (zN A) (fun k => zH A k == 1))) FU (0, 0, 0) = some ((hsF A cS (bn (zN A) (fun k => !(zH A k == 2)) + 1)).1, Int32.ofNat (hsF A cS (bn (zN A) (fun k => !(zH A k == 2)) + 1)).2) := by
        refine lp_cnt (n := bn (zN A) (fun k => !(zH A k == 2)) + 1) (FUlt (by omega)) (fun s => ((hsF A cS s).1, Int32.ofNat (hsF A cS s).2, Int32.ofNat s)) (fun s hs => ?_) ?_
        · have hs2 : s < 2 ^ zN A := by omega
          have hb2 := hsF_lt (A := A) cS (N := zN A) s (by omega)
          have hW1 := Wt_lt ok s
          have hW2 := Wt_lt ok (hsF A cS s).2
          have hC1 := Ct_le ok s
          have hC2 := Ct_le ok (hsF A cS s).2
          have hdis : ((Int32.ofNat s &&& (bs (zN A) (fun k => !(zH A k == 2)) ^^^ (-1))) = 0) = (dj s (fun k => decide (k < zN A) && zH A k == 2) = true) := by
            rw [set_sub hN hs2, dj_congr (q := fun k => decide (k < zN A) && zH A k == 2) (fun k _ => by cases zH A k == 2 <;> simp)]
          unfold fX0_holds_b51
          dsimp only
          rw [hmay, hS.2.2.1, hS.2.2.2.1, if_neg (show ¬ bs (zN A) (fun k => !(zH A k == 2)) < Int32.ofNat s by rw [hmb]; intro h; have := (olt (by omega) (by omega)).mp h; omega)]
          by_cases z1 : dj s (fun k => decide (k < zN A) && zH A k == 2) = true
          · rw [if_pos (Eq.mpr hdis z1), bitsT ok hs2, Option.bind_some]
            by_cases z2 : zro A < Int32.ofNat (Ct A s)
            · have hc : cS s = false := decide_eq_false (fun h => h.2.1 z2)
              rw [if_pos z2, o1]
              simp [hsF, hc]
            · rw [if_neg z2, weightS_eq ok hS hs2, Option.bind_some]
              by_cases z3 : zrp A < Int32.ofNat (Wt A s)
              · have hc : cS s = false := decide_eq_false (fun h => h.2.2 z3)
                rw [if_neg (Int32.not_le.mpr z3), o1]
                simp [hsF, hc]
              · have hc : cS s = true := decide_eq_true ⟨z1, z2, z3⟩
                rw [if_pos (Int32.not_lt.mp z3), Option.bind_some, weightS_eq ok hS hb2, Option.bind_some]
                by_cases z4 : Wt A (hsF A cS s).2 < Wt A s
                · rw [if_pos (Eq.mpr (d_pos hW1 hW2) z4), o1]
                  simp [hsF, hc, hsB, z4]
                · rw [if_neg (fun h => z4 (Eq.mp (d_pos hW1 hW2) h))]
                  by_cases z5 : Wt A s = Wt A (hsF A cS s).2
                  · rw [if_pos (Eq.mpr (d_zero hW1 hW2) z5), Option.bind_some, bitsT ok hb2, Option.bind_some, o1]
                    by_cases z6 : Ct A s ≤ Ct A (hsF A cS s).2
                    · rw [if_pos (yle (by omega) (by omega) z6)]
                      simp [hsF, hc, hsB, z5, z6]
                    · rw [if_neg (nle (by omega) (by omega) (Nat.lt_of_not_le z6))]
                      simp [hsF, hc, hsB, z5, z6]
                  · rw [if_neg (fun h => z5 (Eq.mp (d_zero hW1 hW2) h)), o1]
                    simp [hsF, hc, hsB, z4, z5]
          · have hc : cS s = false := decide_eq_false (fun h => z1 h.1)
            rw [if_neg (fun h => z1 (Eq.mp hdis h)), o1]
            simp [hsF, hc]
        · unfold fX0_holds_b51
          dsimp only
          rw [hmay, if_pos (show bs (zN A) (fun k => !(zH A k == 2)) < Int32.ofNat (bn (zN A) (fun k => !(zH A k == 2)) + 1) by rw [hmb]; exact (olt (by omega) (by omega)).mpr (by omega))]
      have lM : lp (fX9_holds_b32 w) FU (0, 0, 0) = some ((hsF A cS (2 ^ zN A)).1, Int32.ofNat (hsF A cS (2 ^ zN A)).2) := by
        refine lp_cnt (n := 2 ^ zN A) (FUlt (by omega)) (fun s => ((hsF A cS s).1, Int32.ofNat (hsF A cS s).2, Int32.ofNat s)) (fun s hs2 => ?_) ?_
        · have hb2 := hsF_lt (A := A) cS (N := zN A) s (by omega)
          have hW1 := Wt_lt ok s
          have hW2 := Wt_lt ok (hsF A cS s).2
          have hC1 := Ct_le ok s
          have hC2 := Ct_le ok (hsF A cS s).2
          have hdis : ((Int32.ofNat s &&& svb A) = 0) = (dj s (fun k => decide (k < zN A) && zH A k == 2) = true) := set_dis (p := fun k => zH A k == 2) hN hs2
          have hp : ((1 : Int32) <<< (Int32.ofNat (zN A) &&& 31)) = Int32.ofNat (2 ^ zN A) := hd6 ⟨zN A, by omega⟩
          unfold fX9_holds_b32
          dsimp only
          rw [e0, Option.bind_some, hp, if_neg (nle (by omega) (by omega) hs2), weightM_eq ok hm hs2, Option.bind_some, hsv, Option.bind_some]
          by_cases z1 : dj s (fun k => decide (k < zN A) && zH A k == 2) = true
          · rw [if_pos (Eq.mpr hdis z1), onesT ok hs2, Option.bind_some, e2, Option.bind_some]
            by_cases z2 : zro A < Int32.ofNat (Ct A s)
            · have hc : cS s = false := decide_eq_false (fun h => h.2.1 z2)
              rw [if_pos z2, o1]
              simp [hsF, hc]
            · rw [if_neg z2, e3, Option.bind_some]
              by_cases z3 : zrp A < Int32.ofNat (Wt A s)
              · have hc : cS s = false := decide_eq_false (fun h => h.2.2 z3)
                rw [if_pos z3, o1]
                simp [hsF, hc]
              · have hc : cS s = true := decide_eq_true ⟨z1, z2, z3⟩
                rw [if_neg z3, weightM_eq ok hm hb2, Option.bind_some]
                by_cases z4 : Wt A (hsF A cS s).2 < Wt A s
                · rw [if_pos (Eq.mpr (q_lt (by omega) (by omega)) z4), o1]
                  simp [hsF, hc, hsB, z4]
                · rw [if_neg (fun h => z4 (Eq.mp (q_lt (by omega) (by omega)) h))]
                  by_cases z5 : Wt A s = Wt A (hsF A cS s).2
                  · rw [if_pos (Eq.mpr (q_eq (by omega) (by omega)) z5), Option.bind_some, onesT ok hb2, Option.bind_some, o1]
                    by_cases z6 : Ct A s ≤ Ct A (hsF A cS s).2
                    · rw [if_pos (yle (by omega) (by omega) z6)]
                      simp [hsF, hc, hsB, z5, z6]
                    · rw [if_neg (nle (by omega) (by omega) (Nat.lt_of_not_le z6))]
                      simp [hsF, hc, hsB, z5, z6]
                  · rw [if_neg (fun h => z5 (Eq.mp (q_eq (by omega) (by omega)) h)), o1]
                    simp [hsF, hc, hsB, z4, z5]
          · have hc : cS s = false := decide_eq_false (fun h => z1 h.1)
            rw [if_neg (fun h => z1 (Eq.mp hdis h)), o1]
            simp [hsF, hc]
        · have hp : ((1 : Int32) <<< (Int32.ofNat (zN A) &&& 31)) = Int32.ofNat (2 ^ zN A) := hd6 ⟨zN A, by omega⟩
          unfold fX9_holds_b32
          dsimp only
          rw [e0, Option.bind_some, hp, if_pos (yle (by omega) (by omega) (Nat.le_refl _))]
      have hst := hstab (2 ^ zN A) (by omega) (Nat.le_refl _)
      rw [← hst] at lS
      rw [lS, lM, Option.bind_some, Option.bind_some]
      dsimp only
      by_cases q0 : p1 = 0
      · rw [if_pos q0, if_pos q0]; exact ⟨_, rfl, rfl⟩
      · rw [if_neg q0, if_neg q0]
        by_cases q1 : p1 = 1
        · rw [if_pos q1, if_pos q1]; exact ⟨_, rfl, rfl⟩
        · have hb2 := hsF_lt (A := A) cS (N := zN A) (2 ^ zN A) (Nat.le_refl _)
          rw [if_neg q1, if_neg q1, weightS_eq ok hS hb2, weightM_eq ok hm hb2]
          exact ⟨_, rfl, rfl⟩
    · rw [if_neg c2, if_neg c2]; exact ⟨_, rfl, rfl⟩
end HO
