/-! THE PLAIN LAW 24: ask, trace, count, feed -/
set_option maxRecDepth 100000
def TT (tm : Int32) (TB : Nat → Int32) (fr : Int32) (TR : Nat → Int32) : Prop := ∃ t : Nat, t ≤ 16 ∧ tm = Int32.ofNat t ∧ fr = Int32.ofNat t ∧ ∀ i, i < t → TB i = TR i
def RT (f : Int32 → (Nat → Int32) → Option (Int32 × Int32 × (Nat → Int32))) (g : (Nat → Int32) → Int32 → Option (Int32 × Int32 × (Nat → Int32))) : Prop := ∀ tm TB fr TR, TT tm TB fr TR → ∃ a tm' TB' fr' TR', f tm TB = some (a, tm', TB') ∧ g TR fr = some (a, fr', TR') ∧ TT tm' TB' fr' TR'
theorem tt_step {tm fr : Int32} {TB TR : Nat → Int32} (h : TT tm TB fr TR) (c : Int32) : ∃ tm' TB' fr' TR', fX2_begins 16 tm TB c = some (tm', TB') ∧ fX9_traces TR fr c = some (fr', TR') ∧ TT tm' TB' fr' TR' := by
  obtain ⟨t, h1, rfl, rfl, h4⟩ := h
  unfold fX2_begins fX9_traces
  by_cases c1 : t < 16
  · rw [if_neg (show ¬ (16 : Int32) ≤ Int32.ofNat t from nle (a := 16) (b := t) (by omega) (by omega) c1), if_neg (show ¬ (16 : Int32) ≤ Int32.ofNat t from nle (a := 16) (b := t) (by omega) (by omega) c1), wrn c1 (by omega), wrn c1 (by omega), Option.bind_some, Option.bind_some, o1]
    refine ⟨_, _, _, _, rfl, rfl, t + 1, by omega, rfl, rfl, fun i hi => ?_⟩
    by_cases e : i = t
    · subst e; rw [upd_same, upd_same]
    · rw [upd_ne e, upd_ne e]; exact h4 i (by omega)
  · rw [if_pos (show (16 : Int32) ≤ Int32.ofNat t from yle (a := 16) (b := t) (by omega) (by omega) (by omega)), if_pos (show (16 : Int32) ≤ Int32.ofNat t from yle (a := 16) (b := t) (by omega) (by omega) (by omega))]
    exact ⟨_, _, _, _, rfl, rfl, t, h1, rfl, rfl, h4⟩
theorem rt_1 {f : Int32 → (Nat → Int32) → Option (Int32 × Int32 × (Nat → Int32))} {g : (Nat → Int32) → Int32 → Option (Int32 × Int32 × (Nat → Int32))} (c : Int32) (h : Int32 → Int32) (H : RT f g) : RT (fun tm TB => (fX2_begins 16 tm TB c).bind fun q1 => (f q1.1 q1.2).bind fun q2 => some (h q2.1, q2.2.1, q2.2.2)) (fun TR fr => (fX9_traces TR fr c).bind fun q1 => (g q1.2 q1.1).bind fun q2 => some (h q2.1, q2.2.1, q2.2.2)) := by
  intro tm TB fr TR ht
  obtain ⟨tm1, TB1, fr1, TR1, a1, a2, a3⟩ := tt_step ht c
  obtain ⟨a, tm2, TB2, fr2, TR2, b1, b2, b3⟩ := H _ _ _ _ a3
  refine ⟨h a, tm2, TB2, fr2, TR2, ?_, ?_, b3⟩
  · dsimp only; rw [a1, Option.bind_some]; dsimp only; rw [b1]; rfl
  · dsimp only; rw [a2, Option.bind_some]; dsimp only; rw [b2]; rfl
theorem rt_2 {f f2 : Int32 → (Nat → Int32) → Option (Int32 × Int32 × (Nat → Int32))} {g g2 : (Nat → Int32) → Int32 → Option (Int32 × Int32 × (Nat → Int32))} (c : Int32) (h : Int32 → Int32 → Int32) (H : RT f g) (H2 : RT f2 g2) : RT (fun tm TB => (fX2_begins 16 tm TB c).bind fun q1 => (f q1.1 q1.2).bind fun q2 => (f2 q2.2.1 q2.2.2).bind fun q3 => some (h q2.1 q3.1, q3.2.1, q3.2.2)) (fun TR fr => (fX9_traces TR fr c).bind fun q1 => (g q1.2 q1.1).bind fun q2 => (g2 q2.2.2 q2.2.1).bind fun q3 => some (h q2.1 q3.1, q3.2.1, q3.2.2)) := by
  intro tm TB fr TR ht
  obtain ⟨tm1, TB1, fr1, TR1, a1, a2, a3⟩ := tt_step ht c
  obtain ⟨a, tm2, TB2, fr2, TR2, b1, b2, b3⟩ := H _ _ _ _ a3
  obtain ⟨a', tm3, TB3, fr3, TR3, c1, c2, c3⟩ := H2 _ _ _ _ b3
  refine ⟨h a a', tm3, TB3, fr3, TR3, ?_, ?_, c3⟩
  · dsimp only; rw [a1, Option.bind_some]; dsimp only; rw [b1, Option.bind_some]; dsimp only; rw [c1]; rfl
  · dsimp only; rw [a2, Option.bind_some]; dsimp only; rw [b2, Option.bind_some]; dsimp only; rw [c2]; rfl
theorem rt_0 (c v : Int32) {x y : Option Int32} (hx : x = some v) (hy : y = some v) : RT (fun tm TB => (fX2_begins 16 tm TB c).bind fun q1 => x.bind fun v2 => some (v2, q1.1, q1.2)) (fun TR fr => (fX9_traces TR fr c).bind fun q1 => y.bind fun v2 => some (v2, q1.1, q1.2)) := by
  intro tm TB fr TR ht
  obtain ⟨tm1, TB1, fr1, TR1, a1, a2, a3⟩ := tt_step ht c
  refine ⟨v, tm1, TB1, fr1, TR1, ?_, ?_, a3⟩
  · dsimp only; rw [a1, hx]; rfl
  · dsimp only; rw [a2, hy]; rfl
theorem rt_h {f : Int32 → (Nat → Int32) → Option (Int32 × Int32 × (Nat → Int32))} {g : (Nat → Int32) → Int32 → Option (Int32 × Int32 × (Nat → Int32))} (c v : Int32) {x y : Option Int32} (hx : x = some v) (hy : y = some v) (H : RT f g) : RT (fun tm TB => (fX2_begins 16 tm TB c).bind fun q1 => (f q1.1 q1.2).bind fun q2 => x.bind fun v3 => some (q2.1 + v3, q2.2.1, q2.2.2)) (fun TR fr => (fX9_traces TR fr c).bind fun q1 => (g q1.2 q1.1).bind fun q2 => y.bind fun v3 => some (q2.1 + v3, q2.2.1, q2.2.2)) := by
  intro tm TB fr TR ht
  obtain ⟨tm1, TB1, fr1, TR1, a1, a2, a3⟩ := tt_step ht c
  obtain ⟨a, tm2, TB2, fr2, TR2, b1, b2, b3⟩ := H _ _ _ _ a3
  refine ⟨a + v, tm2, TB2, fr2, TR2, ?_, ?_, b3⟩
  · dsimp only; rw [a1, Option.bind_some]; dsimp only; rw [b1, Option.bind_some, hx]; rfl
  · dsimp only; rw [a2, Option.bind_some]; dsimp only; rw [b2, Option.bind_some, hy]; rfl
section AS
variable {dn : Nat → Int32} {hv : HV} {w : Nat → Int32} {e d x h K : Nat}
theorem rt_mark20 (he : dn e = Int32.ofNat d) : RT (fun tm TB => fX14_mark_X4 dn 16 tm TB e) (fun TR fr => fX9_mark20 TR fr (Int32.ofNat d)) := by
  intro tm TB fr TR ht
  obtain ⟨tm1, TB1, fr1, TR1, a1, a2, a3⟩ := tt_step ht 20
  refine ⟨Int32.ofNat d, tm1, TB1, fr1, TR1, ?_, ?_, a3⟩
  · dsimp only; unfold fX14_mark_X4; rw [a1, he]; rfl
  · dsimp only; unfold fX9_mark20; rw [a2]; rfl
def DV (dn : Nat → Int32) (hv : HV) (w : Nat → Int32) (e d K : Nat) : Prop := dn e = Int32.ofNat d ∧ (∃ x, rd (HWE hv) 6 (dn e) = some x ∧ rd w 1247 (25 + Int32.ofNat d) = some x) ∧ (∃ x, rd (HHE hv) 6 (dn e) = some x ∧ rd w 1247 (31 + Int32.ofNat d) = some x) ∧ rd w 1247 (7 + Int32.ofNat d) = some (Int32.ofNat (K + 1))
theorem rt_size10 (D : DV dn hv w e d K) : RT (fun tm TB => fX3_size_X4 dn 16 hv tm TB e) (fun TR fr => fX9_size10 w TR fr (Int32.ofNat d)) := by
  obtain ⟨x, h1, h2⟩ := D.2.1
  exact rt_0 10 x h1 h2
theorem rt_mark21 (D : DV dn hv w e d K) : RT (fun tm TB => fX4_mark_X4 dn 16 hv tm TB e) (fun TR fr => fX9_mark21 w TR fr (Int32.ofNat d)) := by
  obtain ⟨x, h1, h2⟩ := D.2.2.1
  exact rt_h 21 x h1 h2 (rt_mark20 D.1)
theorem markOf_hot (D : DV dn hv w e d 0) : RT (fun tm TB => fX4_mark_X4 dn 16 hv tm TB e) (fun TR fr => fX9_markOf w TR fr (Int32.ofNat d)) := by
  intro tm TB fr TR ht
  obtain ⟨a, b, c, f, g, h1, h2, h3⟩ := rt_mark21 D tm TB fr TR ht
  refine ⟨a, b, c, f, g, h1, ?_, h3⟩
  dsimp only at h2 ⊢
  unfold fX9_markOf
  rw [D.2.2.2, Option.bind_some, if_neg (show ¬ Int32.ofNat (0 + 1) = 2 by decide), if_neg (show ¬ Int32.ofNat (0 + 1) = 3 by decide), h2]
  rfl
theorem markOf_soup (D : DV dn hv w e d 1) : RT (fun tm TB => fX5_mark_X5 dn 16 hv tm TB e) (fun TR fr => fX9_markOf w TR fr (Int32.ofNat d)) := by
  intro tm TB fr TR ht
  obtain ⟨a, b, c, f, g, h1, h2, h3⟩ := rt_1 24 (fun x => 2 * x) (rt_mark21 D) tm TB fr TR ht
  refine ⟨a, b, c, f, g, h1, ?_, h3⟩
  dsimp only at h2 ⊢
  unfold fX9_markOf
  rw [D.2.2.2, Option.bind_some, if_pos (show Int32.ofNat (1 + 1) = 2 by decide)]
  exact h2
theorem markOf_roast (D : DV dn hv w e d 2) : RT (fun tm TB => fX6_mark_X6 dn 16 hv tm TB e) (fun TR fr => fX9_markOf w TR fr (Int32.ofNat d)) := by
  intro tm TB fr TR ht
  obtain ⟨a, b, c, f, g, h1, h2, h3⟩ := rt_1 22 (fun x => x - 1000) (rt_mark21 D) tm TB fr TR ht
  refine ⟨a, b, c, f, g, h1, ?_, h3⟩
  dsimp only at h2 ⊢
  unfold fX9_markOf
  rw [D.2.2.2, Option.bind_some, if_neg (show ¬ Int32.ofNat (2 + 1) = 2 by decide), if_pos (show Int32.ofNat (2 + 1) = 3 by decide)]
  exact h2
theorem sizeOf_hot (D : DV dn hv w e d 0) : RT (fun tm TB => fX4_size_X4 dn 16 hv tm TB e) (fun TR fr => fX9_sizeOf w TR fr (Int32.ofNat d)) := by
  intro tm TB fr TR ht
  obtain ⟨a, b, c, f, g, h1, h2, h3⟩ := rt_2 11 (fun x y => x + y) (rt_size10 D) (markOf_hot D) tm TB fr TR ht
  refine ⟨a, b, c, f, g, h1, ?_, h3⟩
  dsimp only at h2 ⊢
  have h2 : fX9_size11 w TR fr (Int32.ofNat d) = some (a, f, g) := h2
  unfold fX9_sizeOf
  rw [D.2.2.2, Option.bind_some, if_neg (show ¬ Int32.ofNat (0 + 1) = 2 by decide), if_neg (show ¬ Int32.ofNat (0 + 1) = 3 by decide), if_neg (show ¬ Int32.ofNat (0 + 1) = 4 by decide), if_neg (show ¬ Int32.ofNat (0 + 1) = 5 by decide), h2]
  rfl
theorem sizeOf_soup (D : DV dn hv w e d 1) : RT (fun tm TB => fX5_size_X5 dn 16 hv tm TB e) (fun TR fr => fX9_sizeOf w TR fr (Int32.ofNat d)) := by
  intro tm TB fr TR ht
  obtain ⟨a, b, c, f, g, h1, h2, h3⟩ := rt_1 12 (fun x => -x) (rt_2 11 (fun x y => x + y) (rt_size10 D) (markOf_soup D)) tm TB fr TR ht
  refine ⟨a, b, c, f, g, h1, ?_, h3⟩
  dsimp only at h2 ⊢
  unfold fX9_sizeOf
  rw [D.2.2.2, Option.bind_some, if_pos (show Int32.ofNat (1 + 1) = 2 by decide)]
  exact h2
theorem sizeOf_roast (D : DV dn hv w e d 2) : RT (fun tm TB => fX4_size_X6 dn 16 hv tm TB e) (fun TR fr => fX9_sizeOf w TR fr (Int32.ofNat d)) := by
  intro tm TB fr TR ht
  obtain ⟨a, b, c, f, g, h1, h2, h3⟩ := rt_2 11 (fun x y => x + y) (rt_size10 D) (markOf_roast D) tm TB fr TR ht
  refine ⟨a, b, c, f, g, h1, ?_, h3⟩
  dsimp only at h2 ⊢
  have h2 : fX9_size11 w TR fr (Int32.ofNat d) = some (a, f, g) := h2
  unfold fX9_sizeOf
  rw [D.2.2.2, Option.bind_some, if_neg (show ¬ Int32.ofNat (2 + 1) = 2 by decide), if_pos (show Int32.ofNat (2 + 1) = 3 by decide), h2]
  rfl
theorem rt_size13 (D : DV dn hv w e d K) : RT (fun tm TB => fX7_size_X7 dn 16 hv tm TB e) (fun TR fr => fX9_size13 w TR fr (Int32.ofNat d)) := rt_1 13 (fun x => x - 100) (rt_size10 D)
theorem sizeOf_cold (D : DV dn hv w e d 3) : RT (fun tm TB => fX7_size_X7 dn 16 hv tm TB e) (fun TR fr => fX9_sizeOf w TR fr (Int32.ofNat d)) := by
  intro tm TB fr TR ht
  obtain ⟨a, b, c, f, g, h1, h2, h3⟩ := rt_size13 D tm TB fr TR ht
  refine ⟨a, b, c, f, g, h1, ?_, h3⟩
  dsimp only at h2 ⊢
  unfold fX9_sizeOf
  rw [D.2.2.2, Option.bind_some, if_neg (show ¬ Int32.ofNat (3 + 1) = 2 by decide), if_neg (show ¬ Int32.ofNat (3 + 1) = 3 by decide), if_pos (show Int32.ofNat (3 + 1) = 4 by decide), h2]
  rfl
theorem sizeOf_ice (D : DV dn hv w e d 4) : RT (fun tm TB => fX8_size_X8 dn 16 hv tm TB e) (fun TR fr => fX9_sizeOf w TR fr (Int32.ofNat d)) := by
  intro tm TB fr TR ht
  obtain ⟨a, b, c, f, g, h1, h2, h3⟩ := rt_1 14 (fun x => 2 * x) (rt_size13 D) tm TB fr TR ht
  refine ⟨a, b, c, f, g, h1, ?_, h3⟩
  dsimp only at h2 ⊢
  unfold fX9_sizeOf
  rw [D.2.2.2, Option.bind_some, if_neg (show ¬ Int32.ofNat (4 + 1) = 2 by decide), if_neg (show ¬ Int32.ofNat (4 + 1) = 3 by decide), if_neg (show ¬ Int32.ofNat (4 + 1) = 4 by decide), if_pos (show Int32.ofNat (4 + 1) = 5 by decide)]
  exact h2
theorem mark_cold (D : DV dn hv w e d 3) : RT (fun tm TB => fX7_mark_X7 dn 16 hv tm TB e) (fun TR fr => fX9_mark23 w TR fr (Int32.ofNat d)) := rt_2 23 (fun x y => x - y) (rt_mark20 D.1) (sizeOf_cold D)
theorem mark_ice (D : DV dn hv w e d 4) : RT (fun tm TB => fX7_mark_X8 dn 16 hv tm TB e) (fun TR fr => fX9_mark23 w TR fr (Int32.ofNat d)) := rt_2 23 (fun x y => x - y) (rt_mark20 D.1) (sizeOf_ice D)
end AS
section AQ
variable {ln : Nat → Option Int32} {lf : Nat → Nat → Option Nat} {dk : Nat → Option Nat} {dn : Nat → Int32} {hv : HV} {w : Nat → Int32} {A : AH}
/-- every dish of a list has its place as its number -/
def GD (ln : Nat → Option Int32) (lf : Nat → Nat → Option Nat) (dn : Nat → Int32) : Prop := ∀ la k e, lget ln lf la (Int32.ofNat k) = some e → k < 6 → dn e = Int32.ofNat k
theorem act_ask (hT : TV ln lf dk hv w) (hG : GD ln lf dn) (fr : Int32) (TR : Nat → Int32) (p1 p2 : Int32) : ∃ ans made t TB fr' TR', fX0_ask ln lf dk dn hv p1 p2 = some (ans, made, t, TB) ∧ fX9_ask w TR fr p1 p2 = some (ans, fr', TR') ∧ ((made = false ∧ fr' = fr ∧ TR' = TR) ∨ (made = true ∧ TT t TB fr' TR')) := by
  rcases hT with hE | ⟨A, hL⟩
  · refine ⟨-1000001, false, 0, fun _ => 0, fr, TR, ?_, ?_, Or.inl ⟨rfl, rfl, rfl⟩⟩
    · unfold fX0_ask
      rw [isDish_s hE.1 (by omega), Option.bind_some, g01, if_neg (by omega)]
    · unfold fX9_ask
      rw [isDish_m hE.2.2.2.1 (by omega), Option.bind_some, g01, if_neg (by omega)]
  · obtain ⟨hS, hm, ok, hN1, hM, hn⟩ := hL
    have hN6 := ok.1
    unfold fX0_ask fX9_ask
    rw [isDish_s hS.1 (by omega) p1, isDish_m (w := w) (N := zN A) (by rw [← hm.1]) (by omega) p1, Option.bind_some, Option.bind_some, g01, g01]
    by_cases c1 : 0 ≤ p1.toInt ∧ p1.toInt < zN A
    · rw [if_pos c1, if_pos c1, isHalf_s, in01, Option.bind_some, Option.bind_some, g01, g01]
      by_cases c2 : 0 ≤ p2.toInt ∧ p2.toInt ≤ 1
      · rw [if_pos c2, if_pos c2]
        obtain ⟨d, rfl, hd1, hd2⟩ := i32_of c1.1
        have hd : d < zN A := by omega
        have d6 : d < 6 := by omega
        obtain ⟨b1, b2, b3, b4, b5, b6, e, he, hke⟩ := hS.2.2.2.2.2.2.2 d hd
        obtain ⟨m1, m2, m3, m4, m5, m6⟩ := hm.2.2.2.2.2.2.2 d hd
        rw [Nat.zero_add] at m1 m4 m5
        have hl := dish_list hn d6 he
        have hK := (ok.2.2.2.2 d hd).1
        have hdn := hG _ d e hl d6
        have D : DV dn hv w e d (zK A d) := ⟨hdn, ⟨Int32.ofNat (zX A d), by rw [hdn, rdn d6 (by omega), b4], (show rd w 1247 (25 + Int32.ofNat d) = some (w (25 + d)) from rdc (c := 25) (by omega)).trans (by rw [m4])⟩, ⟨Int32.ofNat (zG A d), by rw [hdn, rdn d6 (by omega), b5], (show rd w 1247 (31 + Int32.ofNat d) = some (w (31 + d)) from rdc (c := 31) (by omega)).trans (by rw [m5])⟩, (show rd w 1247 (7 + Int32.ofNat d) = some (w (7 + d)) from rdc (c := 7) (by omega)).trans (by rw [m1])⟩
        have h0 : TT 0 (fun _ => 0) 0 TR := ⟨0, by omega, rfl, rfl, fun i hi => by omega⟩
        rw [hl, Option.bind_some, hke, Option.bind_some]
        obtain ⟨K, hKe⟩ : ∃ K, K = zK A d := ⟨_, rfl⟩
        rw [← hKe] at D hK ⊢
        rcases p01 c2 with q | q
        · rw [if_pos q, if_pos q]
          rcases (show K = 0 ∨ K = 1 ∨ K = 2 ∨ K = 3 ∨ K = 4 by omega) with z | z | z | z | z
          · rw [z] at D ⊢
            obtain ⟨a, b, c, f, g, h1, h2, h3⟩ := sizeOf_hot D _ _ _ _ h0
            dsimp only at h1 h2
            rw [if_pos rfl, h1, h2]; exact ⟨_, _, _, _, _, _, rfl, rfl, Or.inr ⟨rfl, h3⟩⟩
          · rw [z] at D ⊢
            obtain ⟨a, b, c, f, g, h1, h2, h3⟩ := sizeOf_soup D _ _ _ _ h0
            dsimp only at h1 h2
            rw [if_neg (by decide), if_pos rfl, h1, h2]; exact ⟨_, _, _, _, _, _, rfl, rfl, Or.inr ⟨rfl, h3⟩⟩
          · rw [z] at D ⊢
            obtain ⟨a, b, c, f, g, h1, h2, h3⟩ := sizeOf_roast D _ _ _ _ h0
            dsimp only at h1 h2
            rw [if_neg (by decide), if_neg (by decide), if_pos rfl, h1, h2]; exact ⟨_, _, _, _, _, _, rfl, rfl, Or.inr ⟨rfl, h3⟩⟩
          · rw [z] at D ⊢
            obtain ⟨a, b, c, f, g, h1, h2, h3⟩ := sizeOf_cold D _ _ _ _ h0
            dsimp only at h1 h2
            rw [if_neg (by decide), if_neg (by decide), if_neg (by decide), if_pos rfl, h1, h2]; exact ⟨_, _, _, _, _, _, rfl, rfl, Or.inr ⟨rfl, h3⟩⟩
          · rw [z] at D ⊢
            obtain ⟨a, b, c, f, g, h1, h2, h3⟩ := sizeOf_ice D _ _ _ _ h0
            dsimp only at h1 h2
            rw [if_neg (by decide), if_neg (by decide), if_neg (by decide), if_neg (by decide), if_pos rfl, h1, h2]; exact ⟨_, _, _, _, _, _, rfl, rfl, Or.inr ⟨rfl, h3⟩⟩
        · have hq : ¬ p2 = 0 := by rw [q]; decide
          rw [if_neg hq, if_neg hq, D.2.2.2, Option.bind_some]
          rcases (show K = 0 ∨ K = 1 ∨ K = 2 ∨ K = 3 ∨ K = 4 by omega) with z | z | z | z | z
          · rw [z] at D ⊢
            obtain ⟨a, b, c, f, g, h1, h2, h3⟩ := markOf_hot D _ _ _ _ h0
            dsimp only at h1 h2
            rw [if_pos rfl, if_pos (show Int32.ofNat (0 + 1) < 4 by decide), h1, h2]; exact ⟨_, _, _, _, _, _, rfl, rfl, Or.inr ⟨rfl, h3⟩⟩
          · rw [z] at D ⊢
            obtain ⟨a, b, c, f, g, h1, h2, h3⟩ := markOf_soup D _ _ _ _ h0
            dsimp only at h1 h2
            rw [if_neg (by decide), if_pos rfl, if_pos (show Int32.ofNat (1 + 1) < 4 by decide), h1, h2]; exact ⟨_, _, _, _, _, _, rfl, rfl, Or.inr ⟨rfl, h3⟩⟩
          · rw [z] at D ⊢
            obtain ⟨a, b, c, f, g, h1, h2, h3⟩ := markOf_roast D _ _ _ _ h0
            dsimp only at h1 h2
            rw [if_neg (by decide), if_neg (by decide), if_pos rfl, if_pos (show Int32.ofNat (2 + 1) < 4 by decide), h1, h2]; exact ⟨_, _, _, _, _, _, rfl, rfl, Or.inr ⟨rfl, h3⟩⟩
          · rw [z] at D ⊢
            obtain ⟨a, b, c, f, g, h1, h2, h3⟩ := mark_cold D _ _ _ _ h0
            dsimp only at h1 h2
            rw [if_neg (show ¬ (3 : Nat) = 0 by decide), if_neg (show ¬ (3 : Nat) = 1 by decide), if_neg (show ¬ (3 : Nat) = 2 by decide), if_pos rfl, if_neg (show ¬ Int32.ofNat (3 + 1) < 4 by decide), h1, h2]; exact ⟨_, _, _, _, _, _, rfl, rfl, Or.inr ⟨rfl, h3⟩⟩
          · rw [z] at D ⊢
            obtain ⟨a, b, c, f, g, h1, h2, h3⟩ := mark_ice D _ _ _ _ h0
            dsimp only at h1 h2
            rw [if_neg (show ¬ (4 : Nat) = 0 by decide), if_neg (show ¬ (4 : Nat) = 1 by decide), if_neg (show ¬ (4 : Nat) = 2 by decide), if_neg (show ¬ (4 : Nat) = 3 by decide), if_pos rfl, if_neg (show ¬ Int32.ofNat (4 + 1) < 4 by decide), h1, h2]; exact ⟨_, _, _, _, _, _, rfl, rfl, Or.inr ⟨rfl, h3⟩⟩
      · rw [if_neg c2, if_neg c2]; exact ⟨_, _, _, _, _, _, rfl, rfl, Or.inl ⟨rfl, rfl, rfl⟩⟩
    · rw [if_neg c1, if_neg c1]; exact ⟨_, _, _, _, _, _, rfl, rfl, Or.inl ⟨rfl, rfl, rfl⟩⟩
theorem in016 (p : Int32) {n : Nat} (hn : n ≤ 16) : fX0_isIn p.toInt64 0 ((Int32.ofNat n - 1).toInt64) = some (if 0 ≤ p.toInt ∧ p.toInt < n then 1 else 0) := in0m p (by omega)
theorem act_trace {tn : Nat} {tm fr : Int32} {TB TR : Nat → Int32} (h : TT tm TB fr TR) (htn : 16 ≤ tn) (htn2 : tn ≤ 1000) (p1 : Int32) : ∃ ans, fX0_trace tn tm TB p1 = some ans ∧ fX9_trace TR fr p1 = some ans := by
  obtain ⟨t, h1, rfl, rfl, h4⟩ := h
  unfold fX0_trace fX9_trace
  rw [in_same, in016 p1 h1, Option.bind_some, Option.bind_some, g01, g01]
  by_cases c : 0 ≤ p1.toInt ∧ p1.toInt < t
  · obtain ⟨i, rfl, hi1, hi2⟩ := i32_of c.1
    rw [if_pos c, if_pos c, rdn (k := i) (by omega) (by omega), rdn (k := i) (by omega) (by omega), h4 i (by omega)]
    exact ⟨_, rfl, rfl⟩
  · rw [if_neg c, if_neg c]; exact ⟨_, rfl, rfl⟩
end AQ
