/-! THE PLAIN LAW 16: rows -/
set_option maxRecDepth 100000
/-- one row: size, kind, numbers -/
abbrev Rw : Type := Nat × Int32 × (Nat → Int32)
def RR (rs : Nat → Option Rw) (MA LA IT : Nat → Int32) : Prop := ∀ i, i < 8 → (rs i = none → MA i = -1) ∧ ∀ x, rs i = some x → x.1 ≤ 40 ∧ MA i = Int32.ofNat x.1 ∧ LA i = x.2.1 ∧ ∀ k, k < x.1 → IT (40 * i + k) = x.2.2 k
def nr (rs : Nat → Option Rw) (i : Nat) (x : Option Rw) : Nat → Option Rw := fun j => if j = i then x else rs j
theorem nr_same {rs : Nat → Option Rw} {i : Nat} {x : Option Rw} : nr rs i x i = x := if_pos rfl
theorem nr_ne {rs : Nat → Option Rw} {i j : Nat} {x : Option Rw} (h : j ≠ i) : nr rs i x j = rs j := if_neg h
theorem isRow_s (p : Int32) : fX0_isRow p = some (if 0 ≤ p.toInt ∧ p.toInt ≤ 7 then 1 else 0) := by
  unfold fX0_isRow
  rw [show fX0_isIn p.toInt64 0 7 = _ from inl_eq p 0 7 (by omega) (by omega), Option.bind_some, gb01]; rfl
theorem isRow_m (p : Int32) : fX9_isRow p = some (if 0 ≤ p.toInt ∧ p.toInt ≤ 7 then 1 else 0) := isRow_s p
theorem isTold_s (p : Int32) : fX0_isTold p = some (if 1 ≤ p.toInt ∧ p.toInt ≤ 12 then 1 else 0) := by
  unfold fX0_isTold
  rw [show fX0_isIn p.toInt64 1 12 = _ from inl_eq p 1 12 (by omega) (by omega), Option.bind_some, gb01]; rfl
theorem rowAt_none {RW : Nat → Option Nat} {i : Nat} (hi : i < 8) (h : RW i = none) : fX0_rowAt RW (Int32.ofNat i) = some (.inr 1) := by
  unfold fX0_rowAt
  rw [rdqn hi (by omega), Option.bind_some, h, if_pos rfl]
  rfl
theorem rowAt_some {RW : Nat → Option Nat} {i a : Nat} (hi : i < 8) (h : RW i = some a) : fX0_rowAt RW (Int32.ofNat i) = some (.inl a) := by
  unfold fX0_rowAt
  rw [rdqn hi (by omega), Option.bind_some, h, if_neg (by simp)]
  rfl
theorem lt0_i (p : Int32) : (p < 0) = (p.toInt < 0) := by rw [Int32.lt_iff_toInt_lt]; rfl
theorem le0_i (p : Int32) : (0 ≤ p) = (0 ≤ p.toInt) := by rw [Int32.le_iff_toInt_le]; rfl
theorem sum_le (p q : Int32) {n : Nat} (hn : n ≤ 40) : (p.toInt64 + q.toInt64 ≤ (Int32.ofNat n).toInt64) = (p.toInt + q.toInt ≤ n) := by
  have h1 := p.le_toInt; have h2 := p.toInt_lt; have h3 := q.le_toInt; have h4 := q.toInt_lt
  rw [Int64.le_iff_toInt_le, Int64.toInt_add, Int32.toInt_toInt64, Int32.toInt_toInt64, Int32.toInt_toInt64, Int32.toInt_ofNat_of_lt (by omega), Int.bmod_eq_of_le (by omega) (by omega)]
theorem lt_sum (p q : Int32) {n : Nat} (hn : n ≤ 40) : ((Int32.ofNat n).toInt64 < p.toInt64 + q.toInt64) = ((n : Int) < p.toInt + q.toInt) := by
  have h := sum_le p q hn
  apply propext
  rw [← Int64.not_le, h]
  omega
theorem ag_none {MA : Nat → Int32} {i : Nat} (hi : i < 8) (h : MA i = -1) (p2 p3 : Int32) : fX9_against MA (Int32.ofNat i) p2 p3 = some 1 := by
  unfold fX9_against
  rw [rdn hi (by omega), h, Option.bind_some, if_neg (by decide)]
theorem ag_some {MA : Nat → Int32} {i n : Nat} (hi : i < 8) (hn : n ≤ 40) (h : MA i = Int32.ofNat n) (p2 p3 : Int32) : fX9_against MA (Int32.ofNat i) p2 p3 = some (if 0 ≤ p2.toInt ∧ 0 ≤ p3.toInt ∧ p2.toInt + p3.toInt ≤ n then 0 else 2) := by
  unfold fX9_against
  rw [rdn hi (by omega), h, Option.bind_some, if_pos (show (0 : Int32) ≤ Int32.ofNat n from yle (a := 0) (b := n) (by omega) (by omega) (Nat.zero_le _))]
  by_cases c1 : p2 < 0
  · rw [if_pos c1]
    rw [lt0_i] at c1
    rw [if_neg (by omega)]
  · rw [if_neg c1]
    rw [lt0_i] at c1
    by_cases c2 : p3 < 0
    · rw [if_pos c2]
      rw [lt0_i] at c2
      rw [if_neg (by omega)]
    · rw [if_neg c2, Option.bind_some]
      rw [lt0_i] at c2
      by_cases c3 : p2.toInt + p3.toInt ≤ n
      · rw [if_pos (Eq.mpr (sum_le p2 p3 hn) c3), if_pos (by omega)]
      · rw [if_neg (fun q => c3 (Eq.mp (sum_le p2 p3 hn) q)), if_neg (by omega)]
theorem in0m (p : Int32) {n : Nat} (hn : n ≤ 40) : fX0_isIn p.toInt64 0 ((Int32.ofNat n - 1).toInt64) = some (if 0 ≤ p.toInt ∧ p.toInt < n then 1 else 0) := by
  have h : ∀ N : Fin 41, (Int32.ofNat N.val - 1).toInt64.toInt = (N.val : Int) - 1 := by decide +kernel
  rw [in_eq, h ⟨n, by omega⟩, zero64]
  congr 1
  by_cases c : 0 ≤ p.toInt ∧ p.toInt < n
  · rw [if_pos c, if_pos (by dsimp only; omega)]
  · rw [if_neg c, if_neg (by dsimp only; omega)]
theorem i320 {R C : Nat} : (40 * Int32.ofNat R) + Int32.ofNat C = Int32.ofNat (40 * R + C) := by rw [show (40 : Int32) = Int32.ofNat 40 from rfl, ← Int32.ofNat_mul, oadd]
theorem tn_of {p : Int32} {n : Nat} (e : p = Int32.ofNat n) (h : n < 2147483648) : p.toNatClampNeg = n := by rw [e]; exact tnc h
section RA
variable {rs : Nat → Option Rw} {MA LA IT : Nat → Int32} {RW : Nat → Option Nat}
theorem act_set_0 (hR : RR rs MA LA IT) (gs p1 p2 p3 : Int32) (h : (0 ≤ p1.toInt ∧ p1.toInt ≤ 7) → rs p1.toNatClampNeg = none ∧ RW p1.toNatClampNeg = none) : ∃ ans st, fX0_set_0 gs RW p1 = some (ans, st) ∧ fX9_set MA LA IT gs p1 p2 p3 = some (ans, st, IT) := by
  unfold fX0_set_0 fX9_set
  rw [isRow_s, isRow_m, Option.bind_some, Option.bind_some, g01, g01]
  by_cases c : 0 ≤ p1.toInt ∧ p1.toInt ≤ 7
  · obtain ⟨h1, h2⟩ := h c
    obtain ⟨i, rfl, hi, hi2⟩ := i32_of c.1
    rw [tnc hi] at h1 h2
    have i8 : i < 8 := by omega
    rw [if_pos c, if_pos c, rowAt_none i8 h2, ag_none i8 ((hR i i8).1 h1), Option.bind_some, Option.bind_some, if_neg (by decide)]
    exact ⟨_, _, rfl, rfl⟩
  · rw [if_neg c, if_neg c]; exact ⟨_, _, rfl, rfl⟩
theorem act_drop_0 (hR : RR rs MA LA IT) (gs p1 : Int32) (h : (0 ≤ p1.toInt ∧ p1.toInt ≤ 7) → rs p1.toNatClampNeg = none ∧ RW p1.toNatClampNeg = none) : ∃ ans st, fX0_drop_0 gs RW p1 = some (ans, st) ∧ fX9_drop MA gs p1 = some (ans, st, MA) := by
  unfold fX0_drop_0 fX9_drop
  rw [isRow_s, isRow_m, Option.bind_some, Option.bind_some, g01, g01]
  by_cases c : 0 ≤ p1.toInt ∧ p1.toInt ≤ 7
  · obtain ⟨h1, h2⟩ := h c
    obtain ⟨i, rfl, hi, hi2⟩ := i32_of c.1
    rw [tnc hi] at h1 h2
    have i8 : i < 8 := by omega
    rw [if_pos c, if_pos c, rowAt_none i8 h2, rdn i8 (by omega), (hR i i8).1 h1, Option.bind_some, Option.bind_some, if_neg (by decide)]
    exact ⟨_, _, rfl, rfl⟩
  · rw [if_neg c, if_neg c]; exact ⟨_, _, rfl, rfl⟩
theorem act_drop_1 (hR : RR rs MA LA IT) (gs : Int32) {i ra : Nat} {x : Rw} (hi : i < 8) (hx : rs i = some x) (hw : RW i = some ra) : ∃ ans st MA', fX0_drop_1 ra x.1 gs RW (Int32.ofNat i) = some (ans, st, va_up RW i none) ∧ fX9_drop MA gs (Int32.ofNat i) = some (ans, st, MA') ∧ RR (nr rs i none) MA' LA IT := by
  obtain ⟨b1, b2, b3, b4⟩ := (hR i hi).2 x hx
  have hc : 0 ≤ (Int32.ofNat i).toInt ∧ (Int32.ofNat i).toInt ≤ 7 := by rw [Int32.toInt_ofNat_of_lt (by omega)]; omega
  unfold fX0_drop_1 fX9_drop
  rw [isRow_s, isRow_m, Option.bind_some, Option.bind_some, g01, g01, if_pos hc, if_pos hc, rowAt_some hi hw, rdn hi (by omega), b2, Option.bind_some, Option.bind_some, if_pos (show (0 : Int32) ≤ Int32.ofNat x.1 from yle (a := 0) (b := x.1) (by omega) (by omega) (Nat.zero_le _)), Option.bind_some, wrn hi (by omega), Option.bind_some]
  dsimp only
  have hq : wrq RW 8 (Int32.ofNat i) none = some (va_up RW i none) := by
    unfold wrq
    rw [tnc (by omega), if_neg (fun h => h.elim (fun h => nneg (k := i) (by omega) h) (fun h => by omega))]
  rw [show eqa ra ra = some () from if_pos rfl, Option.bind_some, hq, Option.bind_some]
  refine ⟨_, _, _, rfl, rfl, fun j hj => ⟨fun hn => ?_, fun y hy => ?_⟩⟩
  · by_cases e : j = i
    · subst e; exact upd_same
    · rw [nr_ne e] at hn
      rw [upd_ne e]; exact (hR j hj).1 hn
  · by_cases e : j = i
    · subst e; rw [nr_same] at hy; cases hy
    · rw [nr_ne e] at hy
      rw [upd_ne e]; exact (hR j hj).2 y hy
theorem cut_eq (l p : Int32) : ∃ q, fX11_cut l p = some q ∧ (if l = 0 then some p.toInt8.toInt32 else (some l).bind fun v7 => if v7 = 1 then some p.toInt16.toInt32 else some p : Option Int32) = some q := by
  unfold fX11_cut
  rw [Option.bind_some]
  split
  · exact ⟨_, rfl, rfl⟩
  · split
    · exact ⟨_, rfl, rfl⟩
    · exact ⟨_, rfl, rfl⟩
theorem act_set_1 (hR : RR rs MA LA IT) (gs p2 p3 : Int32) {i ra n : Nat} {l : Int32} {I : Nat → Int32} (hi : i < 8) (hx : rs i = some (n, l, I)) (hw : RW i = some ra) : ∃ ans I' st IT', fX0_set_1 ra n gs RW l I (Int32.ofNat i) p2 p3 = some (ans, I', st) ∧ fX9_set MA LA IT gs (Int32.ofNat i) p2 p3 = some (ans, st, IT') ∧ RR (nr rs i (some (n, l, I'))) MA LA IT' := by
  obtain ⟨b1, b2, b3, b4⟩ := (hR i hi).2 _ hx
  dsimp only at b1 b2 b3 b4
  have hc : 0 ≤ (Int32.ofNat i).toInt ∧ (Int32.ofNat i).toInt ≤ 7 := by rw [Int32.toInt_ofNat_of_lt (by omega)]; omega
  have same : RR (nr rs i (some (n, l, I))) MA LA IT := fun j hj => by
    by_cases e : j = i
    · subst e; rw [nr_same, ← hx]; exact hR j hj
    · rw [nr_ne e]; exact hR j hj
  have one1 : (1 : Int32).toInt = 1 := rfl
  unfold fX0_set_1 fX9_set
  rw [isRow_s, isRow_m, Option.bind_some, Option.bind_some, g01, g01, if_pos hc, if_pos hc, rowAt_some hi hw, ag_some hi b1 b2, one1, Option.bind_some, Option.bind_some]
  dsimp only
  rw [show eqa ra ra = some () from if_pos rfl, Option.bind_some, in0m p2 b1, Option.bind_some]
  by_cases c : 0 ≤ p2.toInt ∧ p2.toInt < n
  · rw [if_pos c, if_pos (show 0 ≤ p2.toInt ∧ (0 : Int) ≤ 1 ∧ p2.toInt + 1 ≤ n by omega), if_pos (by decide)]
    obtain ⟨k, rfl, hk1, hk2⟩ := i32_of c.1
    have hk : k < n := by omega
    obtain ⟨q, q1, q2⟩ := cut_eq l p3
    rw [show fX0_must 1 2 = some (.inl ()) from rfl, Option.bind_some]
    dsimp only
    rw [q1, Option.bind_some, wrn hk (by omega), Option.bind_some, rdn hk (by omega), upd_same, Option.bind_some, rdn (f := LA) hi (by omega), b3, Option.bind_some, q2, Option.bind_some, i320, wrn (k := 40 * i + k) (by omega) (by omega), Option.bind_some, rdn (k := 40 * i + k) (by omega) (by omega), upd_same, Option.bind_some]
    refine ⟨_, _, _, _, rfl, rfl, fun j hj => ⟨fun hn => ?_, fun y hy => ?_⟩⟩
    · by_cases e : j = i
      · subst e; rw [nr_same] at hn; cases hn
      · rw [nr_ne e] at hn; exact (hR j hj).1 hn
    · by_cases e : j = i
      · subst e
        rw [nr_same] at hy
        cases hy
        refine ⟨b1, b2, b3, fun m hm => ?_⟩
        dsimp only at hm ⊢
        by_cases e : m = k
        · subst e; rw [upd_same, upd_same]
        · rw [upd_ne (by omega), upd_ne e]; exact b4 m hm
      · rw [nr_ne e] at hy
        obtain ⟨d1, d2, d3, d4⟩ := (hR j hj).2 y hy
        exact ⟨d1, d2, d3, fun m hm => by rw [upd_ne (by omega)]; exact d4 m hm⟩
  · rw [if_neg c, if_neg (show ¬ (0 ≤ p2.toInt ∧ (0 : Int) ≤ 1 ∧ p2.toInt + 1 ≤ n) by omega), if_neg (by decide)]
    exact ⟨_, _, _, _, rfl, rfl, same⟩
theorem act_row (hR : RR rs MA LA IT) (gs p1 p2 p3 : Int32) : ∃ ans b st MA' LA' IT', fX0_row gs p1 p2 p3 = some (ans, b, st) ∧ fX9_row MA LA IT gs p1 p2 p3 = some (ans, st, MA', LA', IT') ∧ RR (if b then nr rs p1.toNatClampNeg (some (p3.toNatClampNeg, p2, fun _ => 0)) else rs) MA' LA' IT' := by
  unfold fX0_row fX9_row
  rw [isRow_s, isRow_m, Option.bind_some, Option.bind_some, g01, g01]
  by_cases c1 : 0 ≤ p1.toInt ∧ p1.toInt ≤ 7
  · rw [if_pos c1, if_pos c1, in_same, show fX0_isIn p2.toInt64 0 2 = _ from inl_eq p2 0 2 (by omega) (by omega), Option.bind_some, Option.bind_some, g01, g01]
    by_cases c2 : ((0 : Nat) : Int) ≤ p2.toInt ∧ p2.toInt ≤ ((2 : Nat) : Int)
    · rw [if_pos c2, if_pos c2]
      by_cases c3 : p3 ≤ 40
      · rw [if_pos c3, if_pos c3]
        by_cases c4 : 0 ≤ p3
        · rw [if_pos c4, if_neg (Int32.not_lt.mpr c4), Option.bind_some, show fX0_must 1 4 = some (.inl ()) from rfl, Option.bind_some]
          dsimp only
          rw [le0_i] at c4
          obtain ⟨i, rfl, hi1, hi2⟩ := i32_of c1.1
          obtain ⟨n, rfl, hn1, hn2⟩ := i32_of c4
          have i8 : i < 8 := by omega
          have hn : n ≤ 40 := (ole (by omega) (by omega)).mp c3
          have hgn : gn (Int32.ofNat n) = some () := by
            unfold gn
            rw [tnc hn1, if_neg (fun h => h.elim (fun h => nneg (k := n) (by omega) h) (fun h => by omega))]
          have hgi : gix 8 (Int32.ofNat i) = some () := by
            unfold gix
            rw [tnc hi1, if_neg (fun h => h.elim (fun h => nneg (k := i) (by omega) h) (fun h => by omega))]
          obtain ⟨r, l1, l2⟩ := lp_inv (b := fX9_row_b60 (Int32.ofNat i)) (s := (0, IT)) (fun (k : Nat) (s : Int32 × (Nat → Int32)) => s.1 = Int32.ofNat k ∧ (∀ m, m < k → s.2 (40 * i + m) = 0) ∧ ∀ j m, j ≠ i → m < 40 → s.2 (40 * j + m) = IT (40 * j + m)) (fun (t : Nat → Int32) => (∀ m, m < 40 → t (40 * i + m) = 0) ∧ ∀ j m, j ≠ i → m < 40 → t (40 * j + m) = IT (40 * j + m)) 40 (FUlt (by omega)) (fun k hk s hI => by
            obtain ⟨a, z⟩ := s
            obtain ⟨i1, i2, i3⟩ := hI
            dsimp only at i1 i2 i3
            subst i1
            unfold fX9_row_b60
            dsimp only
            by_cases hlt : k < 40
            · left
              rw [if_neg (show ¬ (40 : Int32) ≤ Int32.ofNat k from nle (a := 40) (b := k) (by omega) (by omega) hlt), i320, wrn (k := 40 * i + k) (by omega) (by omega), Option.bind_some, o1]
              refine ⟨hlt, _, rfl, rfl, fun m hm => ?_, fun j m hj hm => ?_⟩
              · dsimp only
                by_cases e : m = k
                · subst e; rw [upd_same]
                · rw [upd_ne (by omega)]; exact i2 m (by omega)
              · dsimp only
                rw [upd_ne (by omega)]; exact i3 j m hj hm
            · right
              have : k = 40 := by omega
              subst this
              rw [if_pos (show (40 : Int32) ≤ Int32.ofNat 40 by decide)]
              exact ⟨_, rfl, i2, i3⟩) ⟨rfl, fun m hm => by omega, fun j m _ _ => rfl⟩
          unfold fX11_init
          rw [hgn, Option.bind_some, Option.bind_some, hgi, Option.bind_some, wrn i8 (by omega), Option.bind_some, wrn i8 (by omega), Option.bind_some, l1, Option.bind_some, tnc hi1, tnc hn1]
          refine ⟨_, true, _, _, _, _, rfl, rfl, fun j hj => ?_⟩
          rw [if_pos rfl]
          by_cases e : j = i
          · subst e
            rw [nr_same, upd_same, upd_same]
            refine ⟨fun h => (by cases h), fun y hy => ?_⟩
            cases hy
            exact ⟨hn, rfl, rfl, fun m hm => l2.1 m (by dsimp only at hm; omega)⟩
          · rw [nr_ne e, upd_ne e, upd_ne e]
            refine ⟨(hR j hj).1, fun y hy => ?_⟩
            obtain ⟨d1, d2, d3, d4⟩ := (hR j hj).2 y hy
            exact ⟨d1, d2, d3, fun m hm => by rw [l2.2 j m e (by omega)]; exact d4 m hm⟩
        · rw [if_neg c4, if_pos (Int32.not_le.mp c4), Option.bind_some]
          exact ⟨_, false, _, _, _, _, rfl, rfl, hR⟩
      · rw [if_neg c3, if_neg c3]; exact ⟨_, false, _, _, _, _, rfl, rfl, hR⟩
    · rw [if_neg c2, if_neg c2]; exact ⟨_, false, _, _, _, _, rfl, rfl, hR⟩
  · rw [if_neg c1, if_neg c1]; exact ⟨_, false, _, _, _, _, rfl, rfl, hR⟩
end RA
