/-! THE PLAIN LAW 14: turns -/
set_option maxRecDepth 100000
def tT (A : AH) (m n : Nat) : Nat → Nat → Int32
  | 0, f => hsv (pan m (caA A f))
  | r + 1, f => if (n - (r + 1)) % 2 = 0 then (if f = 0 then tT A m n r f else (if tT A m n r f < tT A m n r (f - 1) then tT A m n r (f - 1) else tT A m n r f)) else (if f + 1 < zF A then (if tT A m n r (f + 1) < tT A m n r f then tT A m n r (f + 1) else tT A m n r f) else tT A m n r f)
theorem tT_succ (A : AH) (m n r f : Nat) : tT A m n (r + 1) f = if (n - (r + 1)) % 2 = 0 then (if f = 0 then tT A m n r f else (if tT A m n r f < tT A m n r (f - 1) then tT A m n r (f - 1) else tT A m n r f)) else (if f + 1 < zF A then (if tT A m n r (f + 1) < tT A m n r f then tT A m n r (f + 1) else tT A m n r f) else tT A m n r f) := rfl
theorem ev2 : ∀ i : Fin 6, (((Int32.ofNat i.val - Int32.ofNat i.val / 2 * 2) = 0) = (i.val % 2 = 0)) := by
  have h : ∀ i : Fin 6, decide ((Int32.ofNat i.val - Int32.ofNat i.val / 2 * 2) = 0) = decide (i.val % 2 = 0) := by decide +kernel
  intro i
  have := h i
  exact propext (by simpa using this)
theorem dn1 : ∀ f : Fin 10, (Int32.ofNat f.val - 1).toInt = (f.val : Int) - 1 ∧ (1 ≤ f.val → Int32.ofNat f.val - 1 = Int32.ofNat (f.val - 1)) ∧ (Int32.ofNat f.val + 1).toInt = (f.val : Int) + 1 := by decide +kernel
def tfB (g : HV → Int32 → Int32 → Int32 → Int32 → Option (Int32 × HV)) (ln : Nat → Option Int32) (lf : Nat → Nat → Option Nat) (dk : Nat → Option Nat) (hv : HV) (tv : HV) (p1 : Int32) (p2 : Int32) (p3 : Int32) (p4 : Int32) : Option (Int32 × HV) :=
  if p1 = p2 then
    (fX0_tried hv tv).bind fun q1 =>
    (some (Sca q1 p4)).bind fun b2 =>
    (fX0_goOn ln lf dk b2 p3).bind fun q3 =>
    (gX1_heats ln q3 1).bind fun q4 =>
    some (q4, q3)
  else
    (g tv (p1 + 1) p2 p3 p4).bind fun q5 =>
    (if (p1 - p1 / 2 * 2) = 0 then
      some (p4 - 1)
    else
      some (p4 + 1) : Option (Int32)).bind fun j6 =>
    (fX0_isFloor hv j6).bind fun q7 =>
    if q7 = 0 then
      some (q5.1, q5.2)
    else
      (g q5.2 (p1 + 1) p2 p3 j6).bind fun q8 =>
      if (p1 - p1 / 2 * 2) = 0 then
        some ((if q5.1 < q8.1 then q8.1 else q5.1), q8.2)
      else
        some ((if q8.1 < q5.1 then q8.1 else q5.1), q8.2)
section TU
variable {ln : Nat → Option Int32} {lf : Nat → Nat → Option Nat} {dk : Nat → Option Nat} {hv tv v : HV} {w : Nat → Int32} {A : AH}
def tOK (hv : HV) (A : AH) (m n j : Nat) (g : HV → Int32 → Int32 → Int32 → Int32 → Option (Int32 × HV)) : Prop := ∀ (tv : HV) (i f : Nat), i ≤ n → n - i ≤ j → f < zF A → ∃ tv', g tv (Int32.ofNat i) (Int32.ofNat n) (Int32.ofNat m) (Int32.ofNat f) = some (tT A m n (n - i) f, tv')
theorem t_leaf (hL : LV ln lf dk hv w A) {m f : Nat} (hm : m ≤ 20) (hf : f < zF A) (tv : HV) : ∃ tv', ((fX0_tried hv tv).bind fun q1 => (some (Sca q1 (Int32.ofNat f))).bind fun b2 => (fX0_goOn ln lf dk b2 (Int32.ofNat m)).bind fun q3 => (gX1_heats ln q3 1).bind fun q4 => some (q4, q3)) = some (hsv (pan m (caA A f)), tv') := by
  have ok := hL.2.2.1
  have hM := hL.2.2.2.2.1
  obtain ⟨v1, t1, t2, t3⟩ := tried_eq hL tv
  obtain ⟨v2, s1, s2, -⟩ := goOn_eq (ok.ca hf) (t2.ca f) (n := m) (by omega) (by show zM A + m < _; omega)
  rw [t1, Option.bind_some, Option.bind_some, s1, Option.bind_some, heats1_eq ((ok.ca hf).pan m) s2]
  exact ⟨_, rfl⟩
theorem t_step (hL : LV ln lf dk hv w A) {m n j : Nat} (hm : m ≤ 20) (hn : n ≤ 4) {g : HV → Int32 → Int32 → Int32 → Int32 → Option (Int32 × HV)} (hg : tOK hv A m n j g) : tOK hv A m n (j + 1) (tfB g ln lf dk hv) := by
  intro tv i f hi hj hf
  have ok := hL.2.2.1
  have hF := ok.2.1
  by_cases he : i = n
  · subst he
    unfold tfB
    rw [if_pos rfl, Nat.sub_self]
    exact t_leaf hL hm hf tv
  · obtain ⟨v1, g1⟩ := hg tv (i + 1) f (by omega) (by omega) hf
    have e : n - i = (n - (i + 1)) + 1 := by omega
    have ei : n - (n - (i + 1) + 1) = i := by omega
    have hev := ev2 ⟨i, by omega⟩
    have hdn := dn1 ⟨f, by omega⟩
    dsimp only at hev hdn
    unfold tfB
    rw [if_neg (one i (c := n) (by omega) (by omega) he), o1, g1, Option.bind_some, e]
    dsimp only
    rw [tT_succ, ei]
    by_cases c1 : i % 2 = 0
    · rw [if_pos (Eq.mpr hev c1), if_pos c1, Option.bind_some, isFloor_s hL.1.2.1 (by omega), Option.bind_some, g01, hdn.1]
      by_cases c2 : f = 0
      · rw [if_neg (by omega), if_pos c2]
        exact ⟨_, rfl⟩
      · obtain ⟨v2, g2⟩ := hg v1 (i + 1) (f - 1) (by omega) (by omega) (by omega)
        rw [if_pos (by omega), if_neg c2, hdn.2.1 (by omega), g2, Option.bind_some, if_pos (Eq.mpr hev c1)]
        exact ⟨_, rfl⟩
    · rw [if_neg (fun h => c1 (Eq.mp hev h)), if_neg c1, Option.bind_some, isFloor_s hL.1.2.1 (by omega), Option.bind_some, g01, hdn.2.2]
      by_cases c2 : f + 1 < zF A
      · obtain ⟨v2, g2⟩ := hg v1 (i + 1) (f + 1) (by omega) (by omega) c2
        rw [if_pos (by omega), if_pos c2, o1, g2, Option.bind_some, if_neg (fun h => c1 (Eq.mp hev h))]
        exact ⟨_, rfl⟩
      · rw [if_neg (by omega), if_neg c2]
        exact ⟨_, rfl⟩
theorem t_all (hL : LV ln lf dk hv w A) {m n : Nat} (hm : m ≤ 20) (hn : n ≤ 4) : tOK hv A m n 4 (fX0_turnFrom_4 ln lf dk hv) := by
  have h0 : tOK hv A m n 0 (fX0_turnFrom_0 ln lf dk hv) := by
    intro tv i f hi hj hf
    have he : i = n := by omega
    subst he
    unfold fX0_turnFrom_0
    rw [if_pos rfl, Nat.sub_self]
    exact t_leaf hL hm hf tv
  have h1 : tOK hv A m n 1 (fX0_turnFrom_1 ln lf dk hv) := t_step hL hm hn h0
  have h2 : tOK hv A m n 2 (fX0_turnFrom_2 ln lf dk hv) := t_step hL hm hn h1
  have h3 : tOK hv A m n 3 (fX0_turnFrom_3 ln lf dk hv) := t_step hL hm hn h2
  exact t_step hL hm hn h3
theorem hf_eq (hL : LV ln lf dk hv w A) {m f : Nat} (hm : m ≤ 20) (hf : f < zF A) : ∃ w', fX9_heatFrom w (Int32.ofNat f) (Int32.ofNat m) = some (hsv (pan m (caA A f)), w') ∧ FR w w' 43 := by
  have ok := hL.2.2.1
  have hM := hL.2.2.2.2.1
  obtain ⟨w1, u1, u2, u3, u4⟩ := tries_eq ok.1 hL.2.1
  obtain ⟨w2, x1, x2, x3⟩ := goesOn_eq (ok.ca hf) (u2.ca ok.1 f) (n := m) (by omega) (by show zM A + m < _; omega)
  unfold fX9_heatFrom
  rw [u1, Option.bind_some, show wr w1 1247 47 (Int32.ofNat f) = some (upd w1 (43 + 4) (Int32.ofNat f)) from wrn (k := 47) (by omega) (by omega), Option.bind_some, x1, Option.bind_some, show fX9_heatServed w2 43 = _ from heatServed_eq (r := 43) (by omega) ((ok.ca hf).pan m) x2, Option.bind_some]
  exact ⟨_, rfl, (FR.upd1 (c := 4) u4 (by omega)).trans x3⟩
theorem wr45 {V : Nat → Int32} {i f : Nat} (h : 9 * i + f < 45) (x : Int32) : wr V 45 ((9 * Int32.ofNat i) + Int32.ofNat f) x = some (upd V (9 * i + f) x) := wre (9 * i + f) (by rw [show (9 : Int32) = Int32.ofNat 9 from rfl, ← Int32.ofNat_mul, oadd]) h (by omega)
theorem rd45 {V : Nat → Int32} {i f : Nat} (h : 9 * i + f < 45) : rd V 45 ((9 * Int32.ofNat i) + Int32.ofNat f) = some (V (9 * i + f)) := rde (9 * i + f) (by rw [show (9 : Int32) = Int32.ofNat 9 from rfl, ← Int32.ofNat_mul, oadd]) h (by omega)
theorem t_row0 (hL : LV ln lf dk hv w A) {m n : Nat} (hm : m ≤ 20) (hn : n ≤ 4) (V : Nat → Int32) : ∃ r, lp (fX9_byTurns_b39 (Int32.ofNat n) (Int32.ofNat m)) FU (0, w, V) = some r ∧ FR w r.1 43 ∧ ∀ f, f < zF A → r.2 (9 * n + f) = tT A m n 0 f := by
  have ok := hL.2.2.1
  have hF := ok.2.1
  refine lp_inv (fun (k : Nat) (s : Int32 × (Nat → Int32) × (Nat → Int32)) => s.1 = Int32.ofNat k ∧ FR w s.2.1 43 ∧ ∀ f, f < k → s.2.2 (9 * n + f) = tT A m n 0 f) _ (zF A) (FUlt (by omega)) (fun k hk s hI => ?_) ⟨rfl, fun i _ => rfl, fun f h => by omega⟩
  obtain ⟨i, u, V⟩ := s
  obtain ⟨i1, i2, i3⟩ := hI
  dsimp only at i1 i2 i3
  subst i1
  have e1 : rd u 1247 1 = some (Int32.ofNat (zF A)) := (r0n (c := 1) (by omega)).trans (by rw [i2 1 (by omega), show w 1 = _ from hL.2.1.2.1])
  unfold fX9_byTurns_b39
  dsimp only
  rw [e1, Option.bind_some]
  by_cases hlt : k < zF A
  · left
    obtain ⟨u2, g1, g2⟩ := hf_eq (hL.try i2) hm hlt
    rw [if_neg (nle (a := zF A) (b := k) (by omega) (by omega) hlt), g1, Option.bind_some]
    dsimp only
    rw [wr45 (by omega), Option.bind_some, o1]
    refine ⟨hlt, _, rfl, rfl, i2.trans g2, fun f hf => ?_⟩
    dsimp only
    by_cases e : f = k
    · subst e; rw [upd_same]; rfl
    · rw [upd_ne (by omega)]; exact i3 f (by omega)
  · right
    have : k = zF A := by omega
    subst this
    rw [if_pos (yle (a := zF A) (b := zF A) (by omega) (by omega) (Nat.le_refl _))]
    exact ⟨_, rfl, i2, i3⟩
theorem t_rowi (hL : LV ln lf dk hv w A) {m n i : Nat} (hn : n ≤ 4) (hi : i < n) (u V : Nat → Int32) (hu : FR w u 43) (r4 : (Nat → Int32) × (Nat → Int32)) (x76 : Int32 × (Nat → Int32)) (e4 : r4.1 = u) (e76 : x76.1 = Int32.ofNat i) (hV : ∀ f, f < zF A → V (9 * (i + 1) + f) = tT A m n (n - (i + 1)) f) : ∃ V', lp (fX9_byTurns_b83 r4 x76) FU (0, V) = some V' ∧ ∀ f, f < zF A → V' (9 * i + f) = tT A m n (n - i) f := by
  have ok := hL.2.2.1
  have hF := ok.2.1
  have hev := ev2 ⟨i, by omega⟩
  dsimp only at hev
  have eT : n - i = (n - (i + 1)) + 1 := by omega
  have ei : n - (n - (i + 1) + 1) = i := by omega
  refine lp_inv (fun (k : Nat) (s : Int32 × (Nat → Int32)) => s.1 = Int32.ofNat k ∧ (∀ f, f < zF A → s.2 (9 * (i + 1) + f) = tT A m n (n - (i + 1)) f) ∧ ∀ f, f < k → s.2 (9 * i + f) = tT A m n (n - i) f) _ (zF A) (FUlt (by omega)) (fun k hk s hI => ?_) ⟨rfl, hV, fun f h => by omega⟩
  obtain ⟨c, V⟩ := s
  obtain ⟨i1, i2, i3⟩ := hI
  dsimp only at i1 i2 i3
  subst i1
  have hw1 : u 1 = Int32.ofNat (zF A) := by rw [hu 1 (by omega), show w 1 = _ from hL.2.1.2.1]
  have e1 : rd u 1247 1 = some (Int32.ofNat (zF A)) := (r0n (c := 1) (by omega)).trans (by rw [hw1])
  unfold fX9_byTurns_b83
  dsimp only
  rw [e4, e76, e1, Option.bind_some]
  by_cases hlt : k < zF A
  · left
    have hdn := dn1 ⟨k, by omega⟩
    dsimp only at hdn
    rw [if_neg (nle (a := zF A) (b := k) (by omega) (by omega) hlt), o1, rd45 (by omega), i2 k hlt, Option.bind_some]
    have fin : ∀ x : Int32, x = tT A m n (n - i) k → ∃ t, ((wr V 45 ((9 * Int32.ofNat i) + Int32.ofNat k) x).bind fun w16 => some (.inl ((Int32.ofNat k + 1), w16)) : Option ((Int32 × (Nat → Int32)) ⊕ (Nat → Int32))) = some (.inl t) ∧ (fun (k : Nat) (s : Int32 × (Nat → Int32)) => s.1 = Int32.ofNat k ∧ (∀ f, f < zF A → s.2 (9 * (i + 1) + f) = tT A m n (n - (i + 1)) f) ∧ ∀ f, f < k → s.2 (9 * i + f) = tT A m n (n - i) f) (k + 1) t := by
      rintro x rfl
      rw [wr45 (by omega), Option.bind_some, o1]
      refine ⟨_, rfl, rfl, fun f hf => ?_, fun f hf => ?_⟩
      · dsimp only; rw [upd_ne (by omega)]; exact i2 f hf
      · dsimp only
        by_cases e : f = k
        · subst e; rw [upd_same]
        · rw [upd_ne (by omega)]; exact i3 f (by omega)
    have fin2 := fin
    rw [o1] at fin2
    refine ⟨hlt, ?_⟩
    by_cases c1 : i % 2 = 0
    · rw [if_pos (Eq.mpr hev c1), Option.bind_some, isFloor_m hw1 (by omega), Option.bind_some, g01, hdn.1]
      by_cases c2 : k = 0
      · rw [if_neg (by omega), Option.bind_some, if_pos (Eq.mpr hev c1), if_pos (Int32.le_refl _), Option.bind_some, if_pos rfl, Option.bind_some]
        exact fin _ (by rw [eT, tT_succ, ei, if_pos c1, if_pos c2])
      · rw [if_pos (by omega), hdn.2.1 (by omega), rd45 (by omega), i2 (k - 1) (by omega), Option.bind_some, Option.bind_some, if_pos (Eq.mpr hev c1)]
        by_cases c3 : tT A m n (n - (i + 1)) k < tT A m n (n - (i + 1)) (k - 1)
        · rw [if_neg (Int32.not_le.mpr c3), Option.bind_some, if_neg (show ¬ (1 : Int32) = 0 by decide), Option.bind_some]
          exact fin _ (by rw [eT, tT_succ, ei, if_pos c1, if_neg c2, if_pos c3])
        · rw [if_pos (Int32.not_lt.mp c3), Option.bind_some, if_pos rfl, Option.bind_some]
          exact fin _ (by rw [eT, tT_succ, ei, if_pos c1, if_neg c2, if_neg c3])
    · rw [if_neg (fun h => c1 (Eq.mp hev h)), Option.bind_some, isFloor_m hw1 (by omega), Option.bind_some, g01, hdn.2.2]
      by_cases c2 : k + 1 < zF A
      · rw [if_pos (by omega), o1, rd45 (by omega), i2 (k + 1) c2, Option.bind_some, Option.bind_some, if_neg (fun h => c1 (Eq.mp hev h))]
        by_cases c3 : tT A m n (n - (i + 1)) (k + 1) < tT A m n (n - (i + 1)) k
        · rw [if_neg (Int32.not_le.mpr c3), Option.bind_some, if_neg (show ¬ (1 : Int32) = 0 by decide), Option.bind_some]
          exact fin2 _ (by rw [eT, tT_succ, ei, if_neg c1, if_pos c2, if_pos c3])
        · rw [if_pos (Int32.not_lt.mp c3), Option.bind_some, if_pos rfl, Option.bind_some]
          exact fin2 _ (by rw [eT, tT_succ, ei, if_neg c1, if_pos c2, if_neg c3])
      · rw [if_neg (by omega), Option.bind_some, if_neg (fun h => c1 (Eq.mp hev h)), if_pos (Int32.le_refl _), Option.bind_some, if_pos rfl, Option.bind_some]
        exact fin _ (by rw [eT, tT_succ, ei, if_neg c1, if_neg c2])
  · right
    have : k = zF A := by omega
    subst this
    rw [if_pos (yle (a := zF A) (b := zF A) (by omega) (by omega) (Nat.le_refl _))]
    exact ⟨_, rfl, i3⟩
theorem mi1 : ∀ i : Fin 6, Int32.ofNat (i.val + 1) + (-1) = Int32.ofNat i.val ∧ Int32.ofNat (i.val + 1) - 1 = Int32.ofNat i.val := by decide +kernel
theorem act_byTurns (hT : TV ln lf dk hv w) (tv : HV) (V : Nat → Int32) (p1 p2 : Int32) : ∃ ans tv' w' V', fX0_byTurns ln lf dk hv tv p1 p2 = some (ans, tv') ∧ fX9_byTurns w V p1 p2 = some (ans, w', V') ∧ FR w w' 43 := by
  rcases hT with hE | ⟨A, hL⟩
  · obtain ⟨h1, h2⟩ := noHouse hE
    refine ⟨-1000002, tv, w, V, ?_, ?_, fun i _ => rfl⟩
    · unfold fX0_byTurns
      rw [h1, Option.bind_some, if_pos rfl]
    · unfold fX9_byTurns
      rw [h2, Option.bind_some, if_pos rfl]
  · obtain ⟨h1, h2⟩ := yesHouse hL
    have hL' := hL
    obtain ⟨hS, hm, ok, hN1, hM, hn⟩ := hL
    have e1 : fX0_isIn p1.toInt64 0 4 = some (if 0 ≤ p1.toInt ∧ p1.toInt ≤ 4 then 1 else 0) := inl_eq p1 0 4 (by omega) (by omega)
    have e2 : fX0_isIn p2.toInt64 1 20 = some (if 1 ≤ p2.toInt ∧ p2.toInt ≤ 20 then 1 else 0) := inl_eq p2 1 20 (by omega) (by omega)
    unfold fX0_byTurns fX9_byTurns
    rw [h1, h2, Option.bind_some, Option.bind_some, if_neg (show ¬ (1 : Int32) = 0 by decide), if_neg (show ¬ (1 : Int32) = 0 by decide), in_same, e1, Option.bind_some, Option.bind_some, g01, g01]
    by_cases c2 : 0 ≤ p1.toInt ∧ p1.toInt ≤ 4
    · rw [if_pos c2, if_pos c2, in_same, e2, Option.bind_some, Option.bind_some, g01, g01]
      by_cases c3 : 1 ≤ p2.toInt ∧ p2.toInt ≤ 20
      · rw [if_pos c3, if_pos c3]
        obtain ⟨n, rfl, hn1, hn2⟩ := i32_of c2.1
        obtain ⟨m, rfl, hm1, hm2⟩ := i32_of (show 0 ≤ p2.toInt by omega)
        obtain ⟨r4, l1, l2, l3⟩ := t_row0 hL' (m := m) (n := n) (by omega) (by omega) V
        obtain ⟨v', s1⟩ := t_all hL' (m := m) (n := n) (by omega) (by omega) tv 0 (zC A) (by omega) (by omega) ok.2.2.1
        have l4 : ∃ V', lp (fX9_byTurns_b76 r4) FU (Int32.ofNat n - 1, r4.2) = some V' ∧ ∀ f, f < zF A → V' (9 * 0 + f) = tT A m n n f := by
          refine lp_inv (fun (k : Nat) (s : Int32 × (Nat → Int32)) => k ≤ n ∧ s.1 = Int32.ofNat (n - k) - 1 ∧ ∀ f, f < zF A → s.2 (9 * (n - k) + f) = tT A m n k f) _ n (FUlt (by omega)) (fun k hk s hI => ?_) ⟨by omega, rfl, l3⟩
          obtain ⟨c, V⟩ := s
          obtain ⟨i0, i1, i2⟩ := hI
          dsimp only at i1 i2
          subst i1
          unfold fX9_byTurns_b76
          dsimp only
          by_cases hlt : k < n
          · left
            obtain ⟨i, hi⟩ : ∃ i, n - k = i + 1 := ⟨n - k - 1, by omega⟩
            have hm1 := mi1 ⟨i, by omega⟩
            dsimp only at hm1
            rw [hi] at i2 ⊢
            obtain ⟨V2, g1, g2⟩ := t_rowi hL' (m := m) (n := n) (i := i) (by omega) (by omega) r4.1 V l2 r4 (Int32.ofNat (i + 1) - 1, V) rfl hm1.2 (fun f hf => (i2 f hf).trans (by rw [show n - (i + 1) = k by omega]))
            rw [if_neg (by rw [hm1.2]; exact nneg (by omega)), g1, Option.bind_some]
            refine ⟨hlt, _, rfl, by omega, ?_, fun f hf => ?_⟩
            · dsimp only
              rw [hm1.2, show n - (k + 1) = i by omega]
              exact (Int32.sub_eq_add_neg _ _).symm
            · dsimp only
              rw [show n - (k + 1) = i by omega, g2 f hf, show n - i = k + 1 by omega]
          · right
            have : k = n := by omega
            subst this
            rw [Nat.sub_self] at i2 ⊢
            rw [if_pos (by decide)]
            exact ⟨_, rfl, i2⟩
        obtain ⟨V', l5, l6⟩ := l4
        have hc := ok.2.2.1
        have hF := ok.2.1
        have e4 : rd r4.1 1247 4 = some (Int32.ofNat (zC A)) := (r0n (c := 4) (by omega)).trans (by rw [l2 4 (by omega), show w 4 = _ from hm.2.2.2.2.1])
        rw [l1, Option.bind_some, l5, Option.bind_some, e4, Option.bind_some, rdn (k := zC A) (by omega) (by omega), Option.bind_some, hS.2.2.2.2.1, show fX0_turnFrom_4 ln lf dk hv tv 0 (Int32.ofNat n) (Int32.ofNat m) (Int32.ofNat (zC A)) = _ from s1, Option.bind_some]
        have l7 := l6 (zC A) hc
        rw [Nat.mul_zero, Nat.zero_add] at l7
        rw [l7]
        exact ⟨_, _, _, _, rfl, rfl, l2⟩
      · rw [if_neg c3, if_neg c3]; exact ⟨_, _, _, _, rfl, rfl, fun i _ => rfl⟩
    · rw [if_neg c2, if_neg c2]; exact ⟨_, _, _, _, rfl, rfl, fun i _ => rfl⟩
end TU
