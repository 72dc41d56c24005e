/-! THE PLAIN LAW 7: questions, forecasts -/
set_option maxRecDepth 100000
def TV (ln : Nat → Option Int32) (lf : Nat → Nat → Option Nat) (dk : Nat → Option Nat) (hv : HV) (w : Nat → Int32) : Prop := EV ln hv w ∨ ∃ A, LV ln lf dk hv w A
section A1
variable {ln : Nat → Option Int32} {lf : Nat → Nat → Option Nat} {dk : Nat → Option Nat} {hv tv v : HV} {w : Nat → Int32} {A : AH}
theorem whereIn_eq (ok : OK A) (hS : SR ln lf dk v A) {d : Nat} (hd : d < zN A) : fX0_whereIn v (Int32.ofNat d) = some (Int32.ofNat (pos (zH A d) (zA A d))) := by
  have hN := ok.1
  obtain ⟨b1, b2, b3, b4, b5, b6, b7, b8⟩ := ok.2.2.2.2 d hd
  obtain ⟨d1, d2, -⟩ := hS.2.2.2.2.2.2.2 d hd
  have d6 : d < 6 := by omega
  have g1 : (Int32.ofNat (zH A d) = 1) = (zH A d = 1) := q_eq (c := 1) (by omega) (by omega)
  have g2 : (Int32.ofNat (zH A d) = 2) = (zH A d = 2) := q_eq (c := 2) (by omega) (by omega)
  unfold fX0_whereIn
  rw [rdn d6 (by omega), d1, Option.bind_some]
  by_cases c1 : zH A d = 1
  · rw [if_pos (Eq.mpr g1 c1), c1]; rfl
  · rw [if_neg (fun h => c1 (Eq.mp g1 h)), Option.bind_some]
    by_cases c2 : zH A d = 2
    · rw [if_pos (Eq.mpr g2 c2), c2]; rfl
    · rw [if_neg (fun h => c2 (Eq.mp g2 h)), rdn d6 (by omega), d2, Option.bind_some]
      have c0 : zH A d = 0 := by omega
      rw [c0]; rfl
theorem mAT {r : Nat} (hm : MR w r A) {d : Nat} (hd : d < zN A) : w (r + 13 + d) = Int32.ofNat (pos (zH A d) (zA A d)) := (hm.2.2.2.2.2.2.2 d hd).2.1
theorem rdc {w : Nat → Int32} {c d : Nat} (h : c + d < 1247) : rd w 1247 (Int32.ofNat c + Int32.ofNat d) = some (w (c + d)) := rd1 h
theorem act_ahead (hT : TV ln lf dk hv w) (tv : HV) (p1 p2 p3 : Int32) : ∃ ans tv' w', fX0_ahead ln lf dk hv tv p1 p2 p3 = some (ans, tv') ∧ fX9_ahead w p1 p2 p3 = some (ans, w') ∧ FR w w' 43 := by
  rcases hT with hE | ⟨A, hL⟩
  · refine ⟨-1000001, tv, w, ?_, ?_, fun i _ => rfl⟩
    · unfold fX0_ahead
      rw [isDish_s hE.1 (by omega), Option.bind_some, g01, if_neg (by omega)]
    · unfold fX9_ahead
      rw [isDish_m hE.2.2.2.1 (by omega), Option.bind_some, g01, if_neg (by omega)]
  · obtain ⟨hS, hm, ok, hN1, hM, hn⟩ := hL
    have hN6 := ok.1
    have hD := isDish_s hS.1 (by omega) p1
    have hD' := isDish_m (w := w) (by rw [← hm.1]) (show zN A < 10 by omega) p1
    have e3 : fX0_isIn p3.toInt64 0 2 = some (if 0 ≤ p3.toInt ∧ p3.toInt ≤ 2 then 1 else 0) := inl_eq p3 0 2 (by omega) (by omega)
    unfold fX0_ahead fX9_ahead
    rw [hD, hD', Option.bind_some, Option.bind_some, g01, g01]
    by_cases c1 : 0 ≤ p1.toInt ∧ p1.toInt < zN A
    · rw [if_pos c1, if_pos c1, isFar_s, in60, Option.bind_some, Option.bind_some, g01, g01]
      by_cases c2 : 0 ≤ p2.toInt ∧ p2.toInt ≤ 60
      · rw [if_pos c2, if_pos c2, in_same, e3, Option.bind_some, Option.bind_some, g01, g01]
        by_cases c3 : 0 ≤ p3.toInt ∧ p3.toInt ≤ 2
        · rw [if_pos c3, if_pos c3]
          obtain ⟨d, rfl, hd1, hd2⟩ := i32_of c1.1
          obtain ⟨n, rfl, hn1, hn2⟩ := i32_of c2.1
          have hd : d < zN A := by omega
          obtain ⟨v1, t1, t2, t3⟩ := tried_eq ⟨hS, hm, ok, hN1, hM, hn⟩ tv
          obtain ⟨w1, u1, u2, u3, u4⟩ := tries_eq ok.1 hm
          obtain ⟨v2, s1, s2, -⟩ := goOn_eq ok t2 (n := n) (by omega) (by omega)
          obtain ⟨w2, x1, x2, x3⟩ := goesOn_eq ok u2 (n := n) (by omega) (by omega)
          have okn := ok.pan n
          have hdn : d < zN (pan n A) := by rw [pan_N]; exact hd
          have d6 : d < 6 := by omega
          rw [t1, u1, Option.bind_some, Option.bind_some, s1, x1, Option.bind_some, Option.bind_some]
          by_cases q0 : p3 = 0
          · rw [if_pos q0, if_pos q0, whereIn_eq okn s2 hdn, show rd w2 1247 (56 + Int32.ofNat d) = some (w2 (56 + d)) from rdc (c := 56) (by omega), show w2 (56 + d) = _ from mAT x2 hdn]
            exact ⟨_, _, _, rfl, rfl, u4.trans x3⟩
          · by_cases q1 : p3 = 1
            · rw [if_neg q0, if_neg q0, if_pos q1, if_pos q1, rdn d6 (by omega), (s2.2.2.2.2.2.2.2 d hdn).2.2.2.2.1, show rd w2 1247 (74 + Int32.ofNat d) = some (w2 (74 + d)) from rdc (c := 74) (by omega), show w2 (74 + d) = _ from (x2.2.2.2.2.2.2.2 d hdn).2.2.2.2.1]
              exact ⟨_, _, _, rfl, rfl, u4.trans x3⟩
            · rw [if_neg q0, if_neg q0, if_neg q1, if_neg q1, rdn d6 (by omega), (s2.2.2.2.2.2.2.2 d hdn).2.2.2.1, show rd w2 1247 (68 + Int32.ofNat d) = some (w2 (68 + d)) from rdc (c := 68) (by omega), show w2 (68 + d) = _ from (x2.2.2.2.2.2.2.2 d hdn).2.2.2.1]
              exact ⟨_, _, _, rfl, rfl, u4.trans x3⟩
        · rw [if_neg c3, if_neg c3]; exact ⟨_, _, _, rfl, rfl, fun i _ => rfl⟩
      · rw [if_neg c2, if_neg c2]; exact ⟨_, _, _, rfl, rfl, fun i _ => rfl⟩
    · rw [if_neg c1, if_neg c1]; exact ⟨_, _, _, rfl, rfl, fun i _ => rfl⟩
/-- the guard 'is there a house' on both sides -/
theorem noHouse (hE : EV ln hv w) : fX0_isHouse hv = some 0 ∧ fX9_isHouse w = some 0 := ⟨(isHouse_s hE.2.1 (by omega)).trans rfl, (isHouse_m hE.2.2.2.1 (by omega)).trans rfl⟩
theorem yesHouse (hL : LV ln lf dk hv w A) : fX0_isHouse hv = some 1 ∧ fX9_isHouse w = some 1 := by
  obtain ⟨hS, hm, ok, hN1, hM, hn⟩ := hL
  have h1 := ok.1; have h2 := ok.2.1; have h3 := ok.2.2.1
  exact ⟨(isHouse_s hS.2.1 (by omega)).trans (by rw [if_pos (by omega)]), (isHouse_m (w := w) (by rw [← hm.1]) (show zN A < 10 by omega)).trans (by rw [if_pos hN1])⟩
theorem act_later (hT : TV ln lf dk hv w) (tv : HV) (p1 : Int32) : ∃ ans tv' w', fX0_later ln lf dk hv tv p1 = some (ans, tv') ∧ fX9_later w p1 = some (ans, w') ∧ FR w w' 43 := by
  rcases hT with hE | ⟨A, hL⟩
  · obtain ⟨h1, h2⟩ := noHouse hE
    refine ⟨-1000002, tv, w, ?_, ?_, fun i _ => rfl⟩
    · unfold fX0_later
      rw [h1, Option.bind_some, if_pos rfl]
    · unfold fX9_later
      rw [h2, Option.bind_some, if_pos rfl]
  · obtain ⟨h1, h2⟩ := yesHouse hL
    have hL' := hL
    obtain ⟨hS, hm, ok, hN1, hM, hn⟩ := hL
    unfold fX0_later fX9_later
    rw [h1, h2, Option.bind_some, Option.bind_some, if_neg (by decide), if_neg (by decide), isFar_s, in60, Option.bind_some, Option.bind_some, g01, g01]
    by_cases c2 : 0 ≤ p1.toInt ∧ p1.toInt ≤ 60
    · rw [if_pos c2, if_pos c2]
      obtain ⟨n, rfl, hn1, hn2⟩ := i32_of c2.1
      obtain ⟨v1, t1, t2, t3⟩ := tried_eq hL' tv
      obtain ⟨w1, u1, u2, u3, u4⟩ := tries_eq ok.1 hm
      obtain ⟨v2, s1, s2, -⟩ := goOn_eq ok t2 (n := n) (by omega) (by omega)
      obtain ⟨w2, x1, x2, x3⟩ := goesOn_eq ok u2 (n := n) (by omega) (by omega)
      rw [t1, u1, Option.bind_some, Option.bind_some, s1, x1, Option.bind_some, Option.bind_some, show rd w2 1247 47 = some (w2 47) from rdn (k := 47) (by omega) (by omega), show w2 47 = _ from x2.2.2.2.2.1, s2.2.2.2.2.1]
      exact ⟨_, _, _, rfl, rfl, u4.trans x3⟩
    · rw [if_neg c2, if_neg c2]; exact ⟨_, _, _, rfl, rfl, fun i _ => rfl⟩
theorem act_fine (hT : TV ln lf dk hv w) (tv : HV) (p1 : Int32) : ∃ ans tv' w', fX0_fine ln lf dk hv tv p1 = some (ans, tv') ∧ fX9_fine w p1 = some (ans, w') ∧ FR w w' 43 := by
  rcases hT with hE | ⟨A, hL⟩
  · obtain ⟨h1, h2⟩ := noHouse hE
    refine ⟨-1000002, tv, w, ?_, ?_, fun i _ => rfl⟩
    · unfold fX0_fine
      rw [h1, Option.bind_some, if_pos rfl]
    · unfold fX9_fine
      rw [h2, Option.bind_some, if_pos rfl]
  · obtain ⟨h1, h2⟩ := yesHouse hL
    have hL' := hL
    obtain ⟨hS, hm, ok, hN1, hM, hn⟩ := hL
    unfold fX0_fine fX9_fine
    rw [h1, h2, Option.bind_some, Option.bind_some, if_neg (by decide), if_neg (by decide), isFar_s, in60, Option.bind_some, Option.bind_some, g01, g01]
    by_cases c2 : 0 ≤ p1.toInt ∧ p1.toInt ≤ 60
    · rw [if_pos c2, if_pos c2]
      obtain ⟨n, rfl, hn1, hn2⟩ := i32_of c2.1
      obtain ⟨v1, t1, t2, t3⟩ := tried_eq hL' tv
      obtain ⟨w1, u1, u2, u3, u4⟩ := tries_eq ok.1 hm
      obtain ⟨v2, s1, s2, -⟩ := goOn_eq ok t2 (n := n) (by omega) (by omega)
      obtain ⟨w2, x1, x2, x3⟩ := goesOn_eq ok u2 (n := n) (by omega) (by omega)
      rw [t1, u1, Option.bind_some, Option.bind_some, s1, x1, Option.bind_some, Option.bind_some, fine_eq (ok.pan n) s2, show fX9_fineOf w2 43 = _ from fineOf_eq (r := 43) (by omega) (ok.pan n) x2]
      exact ⟨_, _, _, rfl, rfl, u4.trans x3⟩
    · rw [if_neg c2, if_neg c2]; exact ⟨_, _, _, rfl, rfl, fun i _ => rfl⟩
end A1
