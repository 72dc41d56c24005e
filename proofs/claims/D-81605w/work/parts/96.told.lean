/-! THE PLAIN LAW 31: a house told, both readers in step -/
set_option maxRecDepth 100000
theorem Tk.frm {t : Nat} {TA TM : Nat → Int32} {i : Nat} {s : Int32 × Int32 × Int32 × Int32} (h : Tk t TA TM i s) : s.2.2.1 = Int32.ofNat i := by
  rcases h with ⟨-, rfl⟩ | ⟨c, -, -, -, -, rfl⟩ | ⟨c, e, v, -, -, -, -, -, -, -, rfl⟩ <;> rfl
theorem begin_ok {t : Nat} {TA TM : Nat → Int32} (h : TP t TA TM) {i n : Nat} (hi : i < t) (hn : n < 6) (fr : Int32) : ∃ s1, fX12_begin (Int32.ofNat t) (Int32.ofNat (i + 1)) fr TA (Int32.ofNat n) 6 = some (.inl (s1.1, s1.2.1, s1.2.2.1, s1.2.2.2)) ∧ Tk t TA TM (i + 1) s1 := by
  obtain ⟨s1, a1, a2⟩ := next_eq h (i := i + 1) (by omega)
  refine ⟨s1, ?_, a2⟩
  unfold fX12_begin
  rw [if_neg (show ¬ (6 : Int32) ≤ Int32.ofNat n from nle (a := 6) (b := n) (by omega) (by omega) hn), Option.bind_some, show fX12_must fr 1 3 = some (.inl ()) from rfl, Option.bind_some]
  dsimp only
  rw [a1, Option.bind_some]
theorem begin_no (rz ra fr : Int32) (TA : Nat → Int32) : fX12_begin rz ra fr TA (Int32.ofNat 6) 6 = some (.inr (3, fr)) := rfl
/-- what was read so far -/
def HR (t : Nat) (TA TM : Nat → Int32) (F : Nat) (ro rp : Int32) (n : Nat) (K At To X G : Nat → Nat) (w : Nat → Int32) (i : Nat) (y : YY) : Prop :=
  n ≤ 6 ∧ i ≤ t ∧ Tk t TA TM i (yat y, ytk y, yfr y, yva y) ∧ (yks y).length = n ∧
  w 172 = Int32.ofNat n ∧ w 173 = Int32.ofNat F ∧ w 174 = ro ∧ w 175 = rp ∧ w 176 = Int32.ofNat 0 ∧ w 177 = Int32.ofNat 1 ∧ w 178 = Int32.ofNat 0 ∧
  ∀ k, k < n → (K k < 5 ∧ At k < F ∧ To k < F ∧ 1 ≤ X k ∧ X k ≤ 9 ∧ G k ≤ 60) ∧
    (w (179 + k) = Int32.ofNat (K k + 1) ∧ w (185 + k) = Int32.ofNat (At k) ∧ w (191 + k) = Int32.ofNat (To k) ∧ w (197 + k) = Int32.ofNat (X k) ∧ w (203 + k) = Int32.ofNat (G k) ∧ w (209 + k) = Int32.ofNat k) ∧
    (yAT y k = Int32.ofNat (At k) ∧ yTO y k = Int32.ofNat (To k) ∧ yWE y k = Int32.ofNat (X k) ∧ yHE y k = Int32.ofNat (G k)) ∧ (yks y)[k]? = some (K k, Int32.ofNat k)
theorem rng_of {p : Int32} {a b : Nat} (h1 : (Int32.ofNat a).toInt ≤ p.toInt) (h2 : p.toInt ≤ (Int32.ofNat b).toInt) (ha : a < 1000) (hb : b < 1000) : ∃ v : Nat, p = Int32.ofNat v ∧ a ≤ v ∧ v ≤ b := by
  have e : ∀ k : Nat, k < 1000 → (Int32.ofNat k).toInt = k := fun k hk => Int32.toInt_ofNat_of_lt (by omega)
  rw [e a ha] at h1
  rw [e b hb] at h2
  obtain ⟨v, rfl, hv1, hv2⟩ := i32_of (p := p) (by omega)
  exact ⟨v, rfl, by omega, by omega⟩
theorem osub1 {F : Nat} (h1 : 1 ≤ F) (h2 : F ≤ 9) : Int32.ofNat F - 1 = Int32.ofNat (F - 1) := by
  have h3 : ∀ k : Nat, k < 9 → Int32.ofNat (k + 1) - 1 = Int32.ofNat k := by decide +kernel
  have := h3 (F - 1) (by omega)
  rw [show F - 1 + 1 = F by omega] at this
  exact this
theorem gix10 {n : Nat} (h : n < 10) : gix 10 (Int32.ofNat n) = some () := by
  have h2 : ∀ k : Nat, k < 10 → gix 10 (Int32.ofNat k) = some () := by decide +kernel
  exact h2 n h
theorem dishBy5 {k : Nat} (h : k < 5) : fX0_dishBy (Int32.ofNat k) = some k := by
  have h2 : ∀ k : Nat, k < 5 → fX0_dishBy (Int32.ofNat k) = some k := by decide +kernel
  exact h2 k h
theorem kind0 {k : Nat} (h : k < 5) : ¬ (Int32.ofNat (k + 1) = 0) := by
  have h2 : ∀ k : Nat, k < 5 → ¬ (Int32.ofNat (k + 1) = 0) := by decide +kernel
  exact h2 k h
section TD
variable {t : Nat} {TA TM : Nat → Int32} {F : Nat} {ro rp : Int32} {n : Nat} {K At To X G : Nat → Nat} {w : Nat → Int32} {i : Nat} {y : YY}
theorem rdw {w : Nat → Int32} {c : Nat} (h : c < 1247) : rd w 1247 (Int32.ofNat c) = some (w c) := rdn h (by omega)
theorem wrw {w : Nat → Int32} {c : Nat} {x : Int32} (h : c < 1247) : wr w 1247 (Int32.ofNat c) x = some (upd w c x) := wrn h (by omega)
theorem wrc {w : Nat → Int32} {c k : Nat} {x : Int32} (h : c + k < 1247) : wr w 1247 (Int32.ofNat c + Int32.ofNat k) x = some (upd w (c + k) x) := wr1 h
/-- one more dish, or the same fault -/
theorem dish_lk (h : TP t TA TM) (hF1 : 1 ≤ F) (hF9 : F ≤ 9) (hR : HR t TA TM F ro rp n K At To X G w i y) (ff fb fn lm : Int32) {x kd : Nat} (hk : kd < 5) (hit : i < t) (hs1 : yat y = Int32.ofNat (i + 1)) (hso : fX12_sortOf (ytk y) (yva y) = some (Int32.ofNat kd)) (hx : fX9_here TM (Int32.ofNat t) (Int32.ofNat i) = some (Int32.ofNat x)) (hkx : fX9_kindOf (Int32.ofNat x) = some (Int32.ofNat (kd + 1))) :
    (∃ e p a v w', fX12_dish_1 (Int32.ofNat F) (yAT y) (yTO y) (yWE y) (yHE y) (Int32.ofNat t) (yat y) (ytk y) (yfr y) (yva y) lm (Int32.ofNat n) TA = some (.inr (e, p)) ∧ fX9_takesDish w TM (Int32.ofNat t) ff (Int32.ofNat i) fb fn = some (0, e, a, p, v, w') ∧ ∀ j, j < 172 ∨ 215 ≤ j → w' j = w j) ∨
    (∃ q i' v w' K' At' To' X' G', fX12_dish_1 (Int32.ofNat F) (yAT y) (yTO y) (yWE y) (yHE y) (Int32.ofNat t) (yat y) (ytk y) (yfr y) (yva y) lm (Int32.ofNat n) TA = some (.inl q) ∧ fX9_takesDish w TM (Int32.ofNat t) ff (Int32.ofNat i) fb fn = some (1, ff, Int32.ofNat i', fb, v, w') ∧ n < 6 ∧ HR t TA TM F ro rp (n + 1) K' At' To' X' G' w' i' (yn q (yks y)) ∧ ∀ j, j < 172 ∨ 215 ≤ j → w' j = w j) := by
  obtain ⟨hn6, hi, hT, hlen, w0, w1, w2, w3, w4, w5, w6, hD⟩ := hR
  have hfr := Tk.frm hT
  unfold fX12_dish_1 fX9_takesDish
  rw [hso, Option.bind_some, show fX1_many_w (Int32.ofNat n) = some (Int32.ofNat n) from rfl, Option.bind_some, show rd w 1247 172 = some (w 172) from rdw (c := 172) (by omega), Option.bind_some, hx, Option.bind_some, hkx, Option.bind_some, if_neg (kind0 hk), w0]
  by_cases c6 : n = 6
  · subst c6
    rw [begin_no, Option.bind_some, if_pos (show Int32.ofNat 6 = 6 from by decide)]
    refine Or.inl ⟨3, yfr y, Int32.ofNat i, fn, w, rfl, ?_, fun _ _ => rfl⟩
    rw [show yfr y = Int32.ofNat i from hfr]
    rfl
  have hn : n < 6 := by omega
  rw [if_neg (show ¬ Int32.ofNat n = 6 from one n (c := 6) (by omega) (by omega) c6), hs1]
  obtain ⟨s1, b1, b2⟩ := begin_ok h hit hn (yfr y)
  rw [b1, Option.bind_some]
  dsimp only
  rw [show wr w 1247 (179 + Int32.ofNat n) (Int32.ofNat (kd + 1)) = some (upd w (179 + n) (Int32.ofNat (kd + 1))) from wrc (c := 179) (by omega), Option.bind_some]
  generalize hw8 : upd w (179 + n) (Int32.ofNat (kd + 1)) = w8
  have g8 : ∀ j, j ≠ 179 + n → w8 j = w j := fun j hj => by rw [← hw8, upd_ne hj]
  have g8' : w8 (179 + n) = Int32.ofNat (kd + 1) := by rw [← hw8, upd_same]
  rw [show rd w8 1247 173 = some (w8 173) from rdw (c := 173) (by omega), Option.bind_some, g8 173 (by omega), w1, osub1 hF1 hF9, o1 i]
  -- at
  rcases fig_eq h (i := i + 1) (by omega) b2 0 (Int32.ofNat (F - 1)) ff fb with ⟨e1, s2, c1, c2, c3, c4, c5, c7⟩ | ⟨k1, a1, v1, c3, c4⟩
  rotate_left
  · rw [c3, c4, Option.bind_some, Option.bind_some]
    exact Or.inl ⟨k1, _, a1, v1, w8, rfl, rfl, fun j hj => g8 j (by omega)⟩
  rw [c3, c4, Option.bind_some, Option.bind_some]
  dsimp only
  obtain ⟨A1, hA1, -, hA2⟩ := rng_of (a := 0) c5 c7 (by omega) (by omega)
  rw [hA1, if_neg (show ¬ (1 : Int32) = 0 by decide), wrn hn (by omega), Option.bind_some, show wr w8 1247 (185 + Int32.ofNat n) (Int32.ofNat A1) = some (upd w8 (185 + n) (Int32.ofNat A1)) from wrc (c := 185) (by omega), Option.bind_some]
  generalize hw11 : upd w8 (185 + n) (Int32.ofNat A1) = w11
  have g11 : ∀ j, j ≠ 185 + n → w11 j = w8 j := fun j hj => by rw [← hw11, upd_ne hj]
  have g11' : w11 (185 + n) = Int32.ofNat A1 := by rw [← hw11, upd_same]
  have r11 : rd w11 1247 173 = some (Int32.ofNat F) := by rw [show rd w11 1247 173 = some (w11 173) from rdw (c := 173) (by omega), g11 173 (by omega), g8 173 (by omega), w1]
  -- to
  rcases more_eq h c1 c2 0 (Int32.ofNat (F - 1)) ff fb with ⟨e2, s3, A2, d1, d2, d3, d4, d5, d6, d7⟩ | ⟨d3, d4⟩ | ⟨k2, a2, v2, d3, d4, d5⟩
  rotate_left
  · rw [d3, d4, Option.bind_some, Option.bind_some]
    exact Or.inl ⟨1, _, _, _, w11, rfl, rfl, fun j hj => by rw [g11 j (by omega), g8 j (by omega)]⟩
  · rw [d3, d4, Option.bind_some, Option.bind_some]
    dsimp only
    rw [if_neg (show ¬ (1 : Int32) = 0 by decide), r11, Option.bind_some, osub1 hF1 hF9, d5, Option.bind_some]
    exact Or.inl ⟨k2, _, a2, v2, w11, rfl, rfl, fun j hj => by rw [g11 j (by omega), g8 j (by omega)]⟩
  rw [d3, d4, Option.bind_some, Option.bind_some]
  dsimp only
  rw [if_neg (show ¬ (1 : Int32) = 0 by decide), r11, Option.bind_some, osub1 hF1 hF9, d5, Option.bind_some]
  dsimp only
  obtain ⟨B1, hB1, -, hB2⟩ := rng_of (a := 0) d6 d7 (by omega) (by omega)
  rw [hB1, if_neg (show ¬ (1 : Int32) = 0 by decide), wrn hn (by omega), Option.bind_some, show wr w11 1247 (191 + Int32.ofNat n) (Int32.ofNat B1) = some (upd w11 (191 + n) (Int32.ofNat B1)) from wrc (c := 191) (by omega), Option.bind_some]
  generalize hw15 : upd w11 (191 + n) (Int32.ofNat B1) = w15
  have g15 : ∀ j, j ≠ 191 + n → w15 j = w11 j := fun j hj => by rw [← hw15, upd_ne hj]
  have g15' : w15 (191 + n) = Int32.ofNat B1 := by rw [← hw15, upd_same]
  -- weight
  rcases more_eq h d1 d2 1 9 ff fb with ⟨e3, s4, A3, f1, f2, f3, f4, f5, f6, f7⟩ | ⟨f3, f4⟩ | ⟨k3, a3, v3, f3, f4, f5⟩
  rotate_left
  · rw [f3, f4, Option.bind_some, Option.bind_some]
    exact Or.inl ⟨1, _, _, _, w15, rfl, rfl, fun j hj => by rw [g15 j (by omega), g11 j (by omega), g8 j (by omega)]⟩
  · rw [f3, f4, Option.bind_some, Option.bind_some]
    dsimp only
    rw [if_neg (show ¬ (1 : Int32) = 0 by decide), f5, Option.bind_some]
    exact Or.inl ⟨k3, _, a3, v3, w15, rfl, rfl, fun j hj => by rw [g15 j (by omega), g11 j (by omega), g8 j (by omega)]⟩
  rw [f3, f4, Option.bind_some, Option.bind_some]
  dsimp only
  rw [if_neg (show ¬ (1 : Int32) = 0 by decide), f5, Option.bind_some]
  dsimp only
  obtain ⟨X1, hX1, hX2, hX3⟩ := rng_of (a := 1) (b := 9) f6 f7 (by omega) (by omega)
  rw [hX1, if_neg (show ¬ (1 : Int32) = 0 by decide), wrn hn (by omega), Option.bind_some, show wr w15 1247 (197 + Int32.ofNat n) (Int32.ofNat X1) = some (upd w15 (197 + n) (Int32.ofNat X1)) from wrc (c := 197) (by omega), Option.bind_some]
  generalize hw18 : upd w15 (197 + n) (Int32.ofNat X1) = w18
  have g18 : ∀ j, j ≠ 197 + n → w18 j = w15 j := fun j hj => by rw [← hw18, upd_ne hj]
  have g18' : w18 (197 + n) = Int32.ofNat X1 := by rw [← hw18, upd_same]
  -- heat
  rcases more_eq h f1 f2 0 60 ff fb with ⟨e4, s5, A4, p1, p2, p3, p4, p5, p6, p7⟩ | ⟨p3, p4⟩ | ⟨k4, a4, v4, p3, p4, p5⟩
  rotate_left
  · rw [p3, p4, Option.bind_some, Option.bind_some]
    exact Or.inl ⟨1, _, _, _, w18, rfl, rfl, fun j hj => by rw [g18 j (by omega), g15 j (by omega), g11 j (by omega), g8 j (by omega)]⟩
  · rw [p3, p4, Option.bind_some, Option.bind_some]
    dsimp only
    rw [if_neg (show ¬ (1 : Int32) = 0 by decide), p5, Option.bind_some]
    exact Or.inl ⟨k4, _, a4, v4, w18, rfl, rfl, fun j hj => by rw [g18 j (by omega), g15 j (by omega), g11 j (by omega), g8 j (by omega)]⟩
  rw [p3, p4, Option.bind_some, Option.bind_some]
  dsimp only
  rw [if_neg (show ¬ (1 : Int32) = 0 by decide), p5, Option.bind_some]
  dsimp only
  obtain ⟨G1, hG1, -, hG2⟩ := rng_of (a := 0) (b := 60) p6 p7 (by omega) (by omega)
  rw [hG1, if_neg (show ¬ (1 : Int32) = 0 by decide), wrn hn (by omega), Option.bind_some, show wr w18 1247 (203 + Int32.ofNat n) (Int32.ofNat G1) = some (upd w18 (203 + n) (Int32.ofNat G1)) from wrc (c := 203) (by omega), Option.bind_some]
  generalize hw21 : upd w18 (203 + n) (Int32.ofNat G1) = w21
  have g21 : ∀ j, j ≠ 203 + n → w21 j = w18 j := fun j hj => by rw [← hw21, upd_ne hj]
  have g21' : w21 (203 + n) = Int32.ofNat G1 := by rw [← hw21, upd_same]
  rw [show wr w21 1247 (209 + Int32.ofNat n) (Int32.ofNat n) = some (upd w21 (209 + n) (Int32.ofNat n)) from wrc (c := 209) (by omega), Option.bind_some]
  generalize hw22 : upd w21 (209 + n) (Int32.ofNat n) = w22
  have g22 : ∀ j, j ≠ 209 + n → w22 j = w21 j := fun j hj => by rw [← hw22, upd_ne hj]
  have g22' : w22 (209 + n) = Int32.ofNat n := by rw [← hw22, upd_same]
  rw [show rd w22 1247 172 = some (w22 172) from rdw (c := 172) (by omega), Option.bind_some, g22 172 (by omega), g21 172 (by omega), g18 172 (by omega), g15 172 (by omega), g11 172 (by omega), g8 172 (by omega), w0, o1,
    show wr w22 1247 172 (Int32.ofNat (n + 1)) = some (upd w22 172 (Int32.ofNat (n + 1))) from wrw (c := 172) (by omega), Option.bind_some]
  generalize hw24 : upd w22 172 (Int32.ofNat (n + 1)) = w24
  have g24 : ∀ j, j ≠ 172 → w24 j = w22 j := fun j hj => by rw [← hw24, upd_ne hj]
  have g24' : w24 172 = Int32.ofNat (n + 1) := by rw [← hw24, upd_same]
  have gf : ∀ j, j < 172 ∨ 215 ≤ j → w24 j = w j := fun j hj => by rw [g24 j (by omega), g22 j (by omega), g21 j (by omega), g18 j (by omega), g15 j (by omega), g11 j (by omega), g8 j (by omega)]
  rw [dishBy5 hk, Option.bind_some, gix10 (by omega), Option.bind_some]
  -- the stop
  rcases sign_eq h p1 p2 (w := 4) (ch := 59) (Or.inr ⟨rfl, rfl⟩) ff fb with ⟨s6, m1, m2, m3, m4⟩ | ⟨m3, m4⟩
  rotate_left
  · rw [m3, m4, Option.bind_some, Option.bind_some]
    exact Or.inl ⟨1, _, _, _, w24, rfl, rfl, gf⟩
  rw [m3, m4, Option.bind_some, Option.bind_some]
  dsimp only
  refine Or.inr ⟨_, e4 + 1, _, w24, nu K n kd, nu At n A1, nu To n B1, nu X n X1, nu G n G1, rfl, rfl, hn, ⟨by omega, m1, m2, ?_, g24', ?_, ?_, ?_, ?_, ?_, ?_, fun k hkn => ?_⟩, gf⟩
  · show (yks y ++ [_]).length = n + 1
    rw [List.length_append, hlen]; rfl
  · rw [g24 _ (by omega), g22 _ (by omega), g21 _ (by omega), g18 _ (by omega), g15 _ (by omega), g11 _ (by omega), g8 _ (by omega)]; exact w1
  · rw [g24 _ (by omega), g22 _ (by omega), g21 _ (by omega), g18 _ (by omega), g15 _ (by omega), g11 _ (by omega), g8 _ (by omega)]; exact w2
  · rw [g24 _ (by omega), g22 _ (by omega), g21 _ (by omega), g18 _ (by omega), g15 _ (by omega), g11 _ (by omega), g8 _ (by omega)]; exact w3
  · rw [g24 _ (by omega), g22 _ (by omega), g21 _ (by omega), g18 _ (by omega), g15 _ (by omega), g11 _ (by omega), g8 _ (by omega)]; exact w4
  · rw [g24 _ (by omega), g22 _ (by omega), g21 _ (by omega), g18 _ (by omega), g15 _ (by omega), g11 _ (by omega), g8 _ (by omega)]; exact w5
  · rw [g24 _ (by omega), g22 _ (by omega), g21 _ (by omega), g18 _ (by omega), g15 _ (by omega), g11 _ (by omega), g8 _ (by omega)]; exact w6
  · by_cases ek : k = n
    · subst ek
      refine ⟨?_, ⟨?_, ?_, ?_, ?_, ?_, ?_⟩, ⟨?_, ?_, ?_, ?_⟩, ?_⟩
      · rw [nu_same, nu_same, nu_same, nu_same, nu_same]
        exact ⟨hk, by omega, by omega, hX2, hX3, hG2⟩
      · rw [nu_same, g24 _ (by omega), g22 _ (by omega), g21 _ (by omega), g18 _ (by omega), g15 _ (by omega), g11 _ (by omega)]; exact g8'
      · rw [nu_same, g24 _ (by omega), g22 _ (by omega), g21 _ (by omega), g18 _ (by omega), g15 _ (by omega)]; exact g11'
      · rw [nu_same, g24 _ (by omega), g22 _ (by omega), g21 _ (by omega), g18 _ (by omega)]; exact g15'
      · rw [nu_same, g24 _ (by omega), g22 _ (by omega), g21 _ (by omega)]; exact g18'
      · rw [nu_same, g24 _ (by omega), g22 _ (by omega)]; exact g21'
      · rw [g24 _ (by omega)]; exact g22'
      · rw [nu_same]; exact upd_same
      · rw [nu_same]; exact upd_same
      · rw [nu_same]; exact upd_same
      · rw [nu_same]; exact upd_same
      · rw [nu_same]
        show (yks y ++ [(kd, Int32.ofNat k)])[k]? = _
        rw [List.getElem?_append_right (by omega), hlen, Nat.sub_self]; rfl
    · have hkl : k < n := by omega
      obtain ⟨q1, ⟨q2, q3, q4, q5, q6, q7⟩, ⟨q8, q9, q10, q11⟩, q12⟩ := hD k hkl
      rw [nu_ne ek, nu_ne ek, nu_ne ek, nu_ne ek, nu_ne ek]
      refine ⟨q1, ⟨?_, ?_, ?_, ?_, ?_, ?_⟩, ⟨?_, ?_, ?_, ?_⟩, ?_⟩
      · rw [g24 _ (by omega), g22 _ (by omega), g21 _ (by omega), g18 _ (by omega), g15 _ (by omega), g11 _ (by omega), g8 _ (by omega)]; exact q2
      · rw [g24 _ (by omega), g22 _ (by omega), g21 _ (by omega), g18 _ (by omega), g15 _ (by omega), g11 _ (by omega), g8 _ (by omega)]; exact q3
      · rw [g24 _ (by omega), g22 _ (by omega), g21 _ (by omega), g18 _ (by omega), g15 _ (by omega), g11 _ (by omega), g8 _ (by omega)]; exact q4
      · rw [g24 _ (by omega), g22 _ (by omega), g21 _ (by omega), g18 _ (by omega), g15 _ (by omega), g11 _ (by omega), g8 _ (by omega)]; exact q5
      · rw [g24 _ (by omega), g22 _ (by omega), g21 _ (by omega), g18 _ (by omega), g15 _ (by omega), g11 _ (by omega), g8 _ (by omega)]; exact q6
      · rw [g24 _ (by omega), g22 _ (by omega), g21 _ (by omega), g18 _ (by omega), g15 _ (by omega), g11 _ (by omega), g8 _ (by omega)]; exact q7
      · exact (upd_ne ek).trans q8
      · exact (upd_ne ek).trans q9
      · exact (upd_ne ek).trans q10
      · exact (upd_ne ek).trans q11
      · show (yks y ++ [(kd, Int32.ofNat n)])[k]? = _
        rw [List.getElem?_append_left (by omega)]; exact q12
end TD
section TL
variable {t : Nat} {TA TM : Nat → Int32} {F : Nat} {ro rp : Int32}
theorem lp_S {S T : Type} (b : S → Option (S ⊕ T)) (f : Nat) (s : S) : lp b (f + 1) s = (b s).bind (fun q => match q with | .inl s' => lp b f s' | .inr t => some t) := rfl
/-- the loop over dishes, from the first one behind on -/
theorem loop_lk (h : TP t TA TM) (hF1 : 1 ≤ F) (hF9 : F ≤ 9) (ff fb : Int32) : ∀ (m n f1 f2 : Nat), n + m = 7 → 1 ≤ n → m ≤ f1 → m ≤ f2 → ∀ (K At To X G : Nat → Nat) (w : Nat → Int32) (i : Nat) (y : YY) (fn : Int32), HR t TA TM F ro rp n K At To X G w i y →
    (∃ e p a v w', lp (allB (Int32.ofNat F) (Int32.ofNat t) TA) f1 y = some (.inr (e, p)) ∧ lp (fX9_takesAll_b9 (Int32.ofNat t) TM) f2 (ff, Int32.ofNat i, fb, fn, w) = some (0, e, a, p, v, w') ∧ ∀ j, j < 172 ∨ 215 ≤ j → w' j = w j) ∨
    (∃ y' i' v w' n' K' At' To' X' G', lp (allB (Int32.ofNat F) (Int32.ofNat t) TA) f1 y = some (.inl y') ∧ lp (fX9_takesAll_b9 (Int32.ofNat t) TM) f2 (ff, Int32.ofNat i, fb, fn, w) = some (1, ff, i', fb, v, w') ∧ 1 ≤ n' ∧ HR t TA TM F ro rp n' K' At' To' X' G' w' t y' ∧ ∀ j, j < 172 ∨ 215 ≤ j → w' j = w j) := by
  intro m
  induction m with
  | zero => intro n f1 f2 h1 h2 h3 h4 K At To X G w i y fn hR; have := hR.1; omega
  | succ m ih =>
    intro n f1 f2 h1 h2 h3 h4 K At To X G w i y fn hR
    obtain ⟨f1, rfl⟩ : ∃ f, f1 = f + 1 := ⟨f1 - 1, by omega⟩
    obtain ⟨f2, rfl⟩ : ∃ f, f2 = f + 1 := ⟨f2 - 1, by omega⟩
    have hn6 := hR.1
    have hi := hR.2.1
    have hT := hR.2.2.1
    have hlen := hR.2.2.2.1
    have w0 := hR.2.2.2.2.1
    have hfr := Tk.frm hT
    have ht := h.1
    rw [lp_S, lp_S]
    have e0 : rd w 1247 172 = some (Int32.ofNat n) := by rw [show rd w 1247 172 = some (w 172) from rdw (c := 172) (by omega), w0]
    have n0 : ¬ Int32.ofNat n = 0 := one n (c := 0) (by omega) (by omega) (by omega)
    rcases sort_eq h hT with ⟨x, kd, a1, a2, a3, a4, a5, a6⟩ | ⟨a1, a2, a3, x, a4, a5⟩
    · have hs : (allB (Int32.ofNat F) (Int32.ofNat t) TA y) = (fX12_dish_1 (Int32.ofNat F) (yAT y) (yTO y) (yWE y) (yHE y) (Int32.ofNat t) (yat y) (ytk y) (yfr y) (yva y) (yLm y) (Int32.ofNat n) TA).bind fun r => match r with
          | .inr e => some (.inr (.inr e))
          | .inl q => some (.inl (yn q (yks y))) := by
        unfold allB
        rw [if_neg (show ¬ 10 ≤ (yks y).length by omega), a4, Option.bind_some, if_neg (nNone (k := kd) (by omega)), hlen]
        rfl
      have hm : fX9_takesAll_b9 (Int32.ofNat t) TM (ff, Int32.ofNat i, fb, fn, w) = (fX9_takesDish w TM (Int32.ofNat t) ff (Int32.ofNat i) fb fn).bind fun q4 =>
          if q4.1 = 0 then some (.inr (0, q4.2.1, q4.2.2.1, q4.2.2.2.1, q4.2.2.2.2.1, q4.2.2.2.2.2)) else some (.inl (q4.2.1, q4.2.2.1, q4.2.2.2.1, q4.2.2.2.2.1, q4.2.2.2.2.2)) := by
        unfold fX9_takesAll_b9
        dsimp only
        rw [e0, Option.bind_some, if_neg n0, if_neg (show ¬ Int32.ofNat t ≤ Int32.ofNat i from fun hh => by rw [ole (by omega) (by omega)] at hh; omega)]
      rw [hs, hm]
      rcases dish_lk h hF1 hF9 hR ff fb fn (yLm y) a1 a2 a3 a4 a5 a6 with ⟨e, p, a, v, w', b1, b2, b3⟩ | ⟨q, i', v, w', K', At', To', X', G', b1, b2, b3, b4, b5⟩
      · rw [b1, b2, Option.bind_some, Option.bind_some]
        exact Or.inl ⟨e, p, a, v, w', rfl, rfl, b3⟩
      · rw [b1, b2, Option.bind_some, Option.bind_some]
        dsimp only
        rw [Option.bind_some]
        dsimp only
        rw [if_neg (show ¬ (1 : Int32) = 0 by decide), Option.bind_some]
        dsimp only
        rcases ih (n + 1) f1 f2 (by omega) (by omega) (by omega) (by omega) K' At' To' X' G' w' i' (yn q (yks y)) v b4 with ⟨e, p, a, v2, w2, c1, c2, c3⟩ | ⟨y2, i2, v2, w2, n2, K2, A2, T2, X2, G2, c1, c2, c3, c4, c5⟩
        · exact Or.inl ⟨e, p, a, v2, w2, c1, c2, fun j hj => (c3 j hj).trans (b5 j hj)⟩
        · exact Or.inr ⟨y2, i2, v2, w2, n2, K2, A2, T2, X2, G2, c1, c2, c3, c4, fun j hj => (c5 j hj).trans (b5 j hj)⟩
    · have hs0 : allB (Int32.ofNat F) (Int32.ofNat t) TA y = (if ytk y = 0 then some 1 else some 0 : Option Int32).bind fun j => (fX12_must (yfr y) j 1).bind fun r => match r with
          | .inr e => some (.inr (.inr e))
          | .inl _ => some (.inr (.inl y)) := by
        unfold allB
        rw [if_neg (show ¬ 10 ≤ (yks y).length by omega), a1, Option.bind_some, if_pos rfl]
        rfl
      rw [hs0]
      rcases a3 with ⟨c1, c2⟩ | ⟨c1, c2⟩
      · rw [if_pos (show ytk y = 0 from c2), Option.bind_some, show fX12_must (yfr y) 1 1 = some (.inl ()) from rfl, Option.bind_some]
        dsimp only
        rw [Option.bind_some]
        have hm : fX9_takesAll_b9 (Int32.ofNat t) TM (ff, Int32.ofNat i, fb, fn, w) = some (.inr (1, ff, Int32.ofNat i, fb, fn, w)) := by
          unfold fX9_takesAll_b9
          dsimp only
          rw [e0, Option.bind_some, if_neg n0, if_pos (show Int32.ofNat t ≤ Int32.ofNat i by rw [ole (by omega) (by omega)]; omega)]
        rw [hm, Option.bind_some]
        subst c1
        exact Or.inr ⟨y, _, fn, w, n, K, At, To, X, G, rfl, rfl, h2, hR, fun _ _ => rfl⟩
      · rw [if_neg (show ¬ ytk y = 0 from c2), Option.bind_some, show fX12_must (yfr y) 0 1 = some (.inr (1, yfr y)) from rfl, Option.bind_some]
        dsimp only
        rw [Option.bind_some]
        have hm : fX9_takesAll_b9 (Int32.ofNat t) TM (ff, Int32.ofNat i, fb, fn, w) = some (.inr (0, 1, Int32.ofNat i, Int32.ofNat i, fn, w)) := by
          unfold fX9_takesAll_b9
          dsimp only
          rw [e0, Option.bind_some, if_neg n0, if_neg (show ¬ Int32.ofNat t ≤ Int32.ofNat i from fun hh => by rw [ole (by omega) (by omega)] at hh; omega)]
          unfold fX9_takesDish
          rw [e0, Option.bind_some, a4, Option.bind_some, a5, Option.bind_some, if_pos rfl]
          rfl
        rw [hm, Option.bind_some]
        refine Or.inl ⟨1, yfr y, Int32.ofNat i, fn, w, rfl, ?_, fun _ _ => rfl⟩
        rw [show yfr y = Int32.ofNat i from hfr]
/-- the list's first dish is as any other -/
theorem dish_01 (mfl : Int32) (AT TO WE HE : Nat → Int32) (rz rat rtk rfr rva lm : Int32) (TA : Nat → Int32) : fX12_dish_0 mfl AT TO WE HE rz rat rtk rfr rva lm TA = fX12_dish_1 mfl AT TO WE HE rz rat rtk rfr rva lm (Int32.ofNat 0) TA := by
  unfold fX12_dish_0 fX12_dish_1
  simp only [show gix 10 (Int32.ofNat 0) = some () from gix10 (by omega), Option.bind_some]
  rfl
/-- from the first dish on, when a sort stands there -/
theorem all_lk (h : TP t TA TM) (hF1 : 1 ≤ F) (hF9 : F ≤ 9) (ff fb fn lm : Int32) {w : Nat → Int32} {i : Nat} {y : YY} (hy : yks y = []) {K At To X G : Nat → Nat} (hR : HR t TA TM F ro rp 0 K At To X G w i y) (hs : ¬ fX12_sortOf (ytk y) (yva y) = some (-1000000)) :
    (∃ e p a v w', allL (Int32.ofNat F) (yAT y) (yTO y) (yWE y) (yHE y) (Int32.ofNat t) (yat y) (ytk y) (yfr y) (yva y) lm TA = some (.inr (e, p)) ∧ lp (fX9_takesAll_b9 (Int32.ofNat t) TM) FU (ff, Int32.ofNat i, fb, fn, w) = some (0, e, a, p, v, w') ∧ ∀ j, j < 172 ∨ 215 ≤ j → w' j = w j) ∨
    (∃ y' i' v w' n' K' At' To' X' G', allL (Int32.ofNat F) (yAT y) (yTO y) (yWE y) (yHE y) (Int32.ofNat t) (yat y) (ytk y) (yfr y) (yva y) lm TA = some (.inl y') ∧ lp (fX9_takesAll_b9 (Int32.ofNat t) TM) FU (ff, Int32.ofNat i, fb, fn, w) = some (1, ff, i', fb, v, w') ∧ 1 ≤ n' ∧ HR t TA TM F ro rp n' K' At' To' X' G' w' t y' ∧ ∀ j, j < 172 ∨ 215 ≤ j → w' j = w j) := by
  have hT := hR.2.2.1
  have w0 := hR.2.2.2.2.1
  have e0 : rd w 1247 172 = some 0 := by rw [show rd w 1247 172 = some (w 172) from rdw (c := 172) (by omega), w0]; rfl
  rcases sort_eq h hT with ⟨x, kd, a1, a2, a3, a4, a5, a6⟩ | ⟨a1, -⟩
  rotate_left
  · exact absurd a1 hs
  have hm : fX9_takesAll_b9 (Int32.ofNat t) TM (ff, Int32.ofNat i, fb, fn, w) = (fX9_takesDish w TM (Int32.ofNat t) ff (Int32.ofNat i) fb fn).bind fun q4 =>
      if q4.1 = 0 then some (.inr (0, q4.2.1, q4.2.2.1, q4.2.2.2.1, q4.2.2.2.2.1, q4.2.2.2.2.2)) else some (.inl (q4.2.1, q4.2.2.1, q4.2.2.2.1, q4.2.2.2.2.1, q4.2.2.2.2.2)) := by
    unfold fX9_takesAll_b9
    dsimp only
    rw [e0, Option.bind_some, if_pos rfl]
  unfold allL
  rw [show FU = 99999 + 1 from rfl, lp_S, hm, a4, Option.bind_some, if_neg (nNone (k := kd) (by omega)), dish_01]
  rcases dish_lk h hF1 hF9 hR ff fb fn lm a1 a2 a3 a4 a5 a6 with ⟨e, p, a, v, w', b1, b2, b3⟩ | ⟨q, i', v, w', K', At', To', X', G', b1, b2, b3, b4, b5⟩
  · rw [b1, b2, Option.bind_some, Option.bind_some]
    exact Or.inl ⟨e, p, a, v, w', rfl, rfl, b3⟩
  · rw [b1, b2, Option.bind_some, Option.bind_some]
    dsimp only
    rw [if_neg (show ¬ (1 : Int32) = 0 by decide), Option.bind_some]
    dsimp only
    rw [hy] at b4
    rcases loop_lk h hF1 hF9 ff fb 6 1 8 99999 (by omega) (by omega) (by omega) (by omega) K' At' To' X' G' w' i' (yn q []) v b4 with ⟨e, p, a, v2, w2, c1, c2, c3⟩ | ⟨y2, i2, v2, w2, n2, K2, A2, T2, X2, G2, c1, c2, c3, c4, c5⟩
    · exact Or.inl ⟨e, p, a, v2, w2, c1, c2, fun j hj => (c3 j hj).trans (b5 j hj)⟩
    · exact Or.inr ⟨y2, i2, v2, w2, n2, K2, A2, T2, X2, G2, c1, c2, c3, c4, fun j hj => (c5 j hj).trans (b5 j hj)⟩
end TL
section TH
variable {t : Nat} {TA TM : Nat → Int32}
theorem RK0_id : ∀ k : Fin 6, RK0 k.val = Int32.ofNat k.val := by decide +kernel
/-- the whole text, both readers -/
theorem text_lk (h : TP t TA TM) (ff fb fn : Int32) {w : Nat → Int32} (w0 : w 172 = Int32.ofNat 0) (w4 : w 176 = Int32.ofNat 0) (w5 : w 177 = Int32.ofNat 1) (w6 : w 178 = Int32.ofNat 0) :
    (∃ e p a v w', fX12_all (Int32.ofNat t) 0 0 (fun _ => 0) (fun _ => 0) (fun _ => 0) (fun _ => 0) TA = some (.inr (e, p)) ∧ fX9_takesAll w TM (Int32.ofNat t) ff 0 fb fn = some (0, e, a, p, v, w') ∧ ∀ j, j < 172 ∨ 215 ≤ j → w' j = w j) ∨
    (∃ F ro rp y' i' v w' n' K' At' To' X' G', fX12_all (Int32.ofNat t) 0 0 (fun _ => 0) (fun _ => 0) (fun _ => 0) (fun _ => 0) TA = some (.inl (Int32.ofNat F, ro, rp, y')) ∧ fX9_takesAll w TM (Int32.ofNat t) ff 0 fb fn = some (1, ff, i', fb, v, w') ∧ 1 ≤ n' ∧ 2 ≤ F ∧ F ≤ 9 ∧ HR t TA TM F ro rp n' K' At' To' X' G' w' t y' ∧ ∀ j, j < 172 ∨ 215 ≤ j → w' j = w j) := by
  have ht := h.1
  obtain ⟨s0, a1, a2⟩ := next_eq h (i := 0) (by omega)
  unfold fX12_all fX9_takesAll fX9_takesLaw
  rw [show fX12_next (Int32.ofNat t) 0 TA = some s0 from a1, Option.bind_some]
  rcases d_eq h a2 ff fb with ⟨b1, b2, b3, b4⟩ | ⟨b3, b2, b4⟩
  rotate_left
  · rw [b3, Option.bind_some, show fX12_must s0.2.2.1 0 1 = some (.inr (1, s0.2.2.1)) from rfl, Option.bind_some, show fX9_takes TM (Int32.ofNat t) ff 0 fb 100 = some (0, 1, Int32.ofNat 0, Int32.ofNat 0) from b4, Option.bind_some, b2]
    exact Or.inl ⟨1, _, _, _, w, rfl, rfl, fun _ _ => rfl⟩
  rw [b3, Option.bind_some, show fX12_must s0.2.2.1 1 1 = some (.inl ()) from rfl, Option.bind_some, show fX9_takes TM (Int32.ofNat t) ff 0 fb 100 = some (1, ff, Int32.ofNat (0 + 1), fb) from b4, Option.bind_some]
  dsimp only
  rw [if_neg (show ¬ (1 : Int32) = 0 by decide), b2]
  obtain ⟨s1, c1, c2⟩ := next_eq h (i := 0 + 1) b1
  rw [c1, Option.bind_some]
  -- floors
  rcases fig_eq h b1 c2 2 9 ff fb with ⟨e1, s2, d1, d2, d3, d4, d5, d6⟩ | ⟨k1, a3, v1, d3, d4⟩
  rotate_left
  · rw [d3, d4, Option.bind_some, Option.bind_some]
    exact Or.inl ⟨k1, _, a3, v1, w, rfl, rfl, fun _ _ => rfl⟩
  rw [d3, d4, Option.bind_some, Option.bind_some]
  dsimp only
  obtain ⟨F, hF, hF2, hF9⟩ := rng_of (a := 2) (b := 9) d5 d6 (by omega) (by omega)
  rw [hF, if_neg (show ¬ (1 : Int32) = 0 by decide), show wr w 1247 173 (Int32.ofNat F) = some (upd w 173 (Int32.ofNat F)) from wrw (c := 173) (by omega), Option.bind_some]
  generalize hw3 : upd w 173 (Int32.ofNat F) = w3
  have g3 : ∀ j, j ≠ 173 → w3 j = w j := fun j hj => by rw [← hw3, upd_ne hj]
  have g3' : w3 173 = Int32.ofNat F := by rw [← hw3, upd_same]
  -- room
  rcases more_eq h d1 d2 1 4 ff fb with ⟨e2, s3, ro, f1, f2, f3, f4, f5, f6, f7⟩ | ⟨f3, f4⟩ | ⟨k2, a4, v2, f3, f4, f5⟩
  rotate_left
  · rw [f3, f4, Option.bind_some, Option.bind_some]
    exact Or.inl ⟨1, _, _, _, w3, rfl, rfl, fun j hj => g3 j (by omega)⟩
  · rw [f3, f4, Option.bind_some, Option.bind_some]
    dsimp only
    rw [if_neg (show ¬ (1 : Int32) = 0 by decide), f5, Option.bind_some]
    exact Or.inl ⟨k2, _, a4, v2, w3, rfl, rfl, fun j hj => g3 j (by omega)⟩
  rw [f3, f4, Option.bind_some, Option.bind_some]
  dsimp only
  rw [if_neg (show ¬ (1 : Int32) = 0 by decide), f5, Option.bind_some]
  dsimp only
  rw [if_neg (show ¬ (1 : Int32) = 0 by decide), show wr w3 1247 174 ro = some (upd w3 174 ro) from wrw (c := 174) (by omega), Option.bind_some]
  generalize hw6 : upd w3 174 ro = w6'
  have g6 : ∀ j, j ≠ 174 → w6' j = w3 j := fun j hj => by rw [← hw6, upd_ne hj]
  have g6' : w6' 174 = ro := by rw [← hw6, upd_same]
  -- rope
  rcases more_eq h f1 f2 1 40 ff fb with ⟨e3, s4, rp, m1, m2, m3, m4, m5, m6, m7⟩ | ⟨m3, m4⟩ | ⟨k3, a5, v3, m3, m4, m5⟩
  rotate_left
  · rw [m3, m4, Option.bind_some, Option.bind_some]
    exact Or.inl ⟨1, _, _, _, w6', rfl, rfl, fun j hj => by rw [g6 j (by omega), g3 j (by omega)]⟩
  · rw [m3, m4, Option.bind_some, Option.bind_some]
    dsimp only
    rw [if_neg (show ¬ (1 : Int32) = 0 by decide), m5, Option.bind_some]
    exact Or.inl ⟨k3, _, a5, v3, w6', rfl, rfl, fun j hj => by rw [g6 j (by omega), g3 j (by omega)]⟩
  rw [m3, m4, Option.bind_some, Option.bind_some]
  dsimp only
  rw [if_neg (show ¬ (1 : Int32) = 0 by decide), m5, Option.bind_some]
  dsimp only
  rw [if_neg (show ¬ (1 : Int32) = 0 by decide), show wr w6' 1247 175 rp = some (upd w6' 175 rp) from wrw (c := 175) (by omega), Option.bind_some]
  generalize hw9 : upd w6' 175 rp = w9
  have g9 : ∀ j, j ≠ 175 → w9 j = w6' j := fun j hj => by rw [← hw9, upd_ne hj]
  have g9' : w9 175 = rp := by rw [← hw9, upd_same]
  have gf : ∀ j, j < 172 ∨ 215 ≤ j → w9 j = w j := fun j hj => by rw [g9 j (by omega), g6 j (by omega), g3 j (by omega)]
  -- the stop
  rcases sign_eq h m1 m2 (w := 4) (ch := 59) (Or.inr ⟨rfl, rfl⟩) ff fb with ⟨s5, n1, n2, n3, n4⟩ | ⟨n3, n4⟩
  rotate_left
  · rw [n3, n4, Option.bind_some, Option.bind_some]
    exact Or.inl ⟨1, _, _, _, w9, rfl, rfl, gf⟩
  rw [n3, n4, Option.bind_some, Option.bind_some]
  dsimp only
  rw [show gb 1 = some () from rfl, Option.bind_some, Option.bind_some]
  dsimp only
  rw [if_neg (show ¬ (1 : Int32) = 0 by decide)]
  have hR : HR t TA TM F ro rp 0 (fun _ => 0) (fun _ => 0) (fun _ => 0) (fun _ => 0) (fun _ => 0) w9 (e3 + 1) ((0, (fun _ => 0), (fun _ => 0), (fun _ => 0), (fun _ => 0), s5.1, s5.2.1, s5.2.2.1, s5.2.2.2, []) : YY) := by
    refine ⟨by omega, n1, n2, rfl, ?_, ?_, ?_, g9', ?_, ?_, ?_, fun k hk => absurd hk (Nat.not_lt_zero _)⟩
    · rw [g9 _ (by omega), g6 _ (by omega), g3 _ (by omega)]; exact w0
    · rw [g9 _ (by omega), g6 _ (by omega)]; exact g3'
    · rw [g9 _ (by omega)]; exact g6'
    · rw [g9 _ (by omega), g6 _ (by omega), g3 _ (by omega)]; exact w4
    · rw [g9 _ (by omega), g6 _ (by omega), g3 _ (by omega)]; exact w5
    · rw [g9 _ (by omega), g6 _ (by omega), g3 _ (by omega)]; exact w6
  rcases sort_eq h n2 with ⟨x, kd, q1, q2, q3, q4, q5, q6⟩ | ⟨q1, q2, q3, x, q4, q5⟩
  · rw [q4, Option.bind_some, if_neg (nNone (k := kd) (by omega)), Option.bind_some, show fX12_must s5.2.2.1 1 1 = some (.inl ()) from rfl, Option.bind_some]
    dsimp only
    have hns : ¬ fX12_sortOf s5.2.1 s5.2.2.2 = some (-1000000) := by
      rw [q4]
      intro hh
      exact nNone (k := kd) (by omega) (Option.some.inj hh)
    rcases all_lk h (by omega) hF9 ff fb rp 0 (y := ((0, (fun _ => 0), (fun _ => 0), (fun _ => 0), (fun _ => 0), s5.1, s5.2.1, s5.2.2.1, s5.2.2.2, []) : YY)) rfl hR hns with ⟨e, p, a, v, w', r1, r2, r3⟩ | ⟨y', i', v, w', n', K', At', To', X', G', r1, r2, r3, r4, r5⟩
    · have r1' : allL (Int32.ofNat F) (fun _ => 0) (fun _ => 0) (fun _ => 0) (fun _ => 0) (Int32.ofNat t) s5.1 s5.2.1 s5.2.2.1 s5.2.2.2 0 TA = some (.inr (e, p)) := r1
      rw [r1', r2, Option.bind_some]
      exact Or.inl ⟨e, p, a, v, w', rfl, rfl, fun j hj => (r3 j hj).trans (gf j hj)⟩
    · have r1' : allL (Int32.ofNat F) (fun _ => 0) (fun _ => 0) (fun _ => 0) (fun _ => 0) (Int32.ofNat t) s5.1 s5.2.1 s5.2.2.1 s5.2.2.2 0 TA = some (.inl y') := r1
      rw [r1', r2, Option.bind_some]
      exact Or.inr ⟨F, ro, rp, y', i', v, w', n', K', At', To', X', G', rfl, rfl, r3, hF2, hF9, r4, fun j hj => (r5 j hj).trans (gf j hj)⟩
  · rw [q1, Option.bind_some, if_pos rfl, Option.bind_some, show fX12_must s5.2.2.1 0 1 = some (.inr (1, s5.2.2.1)) from rfl, Option.bind_some]
    dsimp only
    have e0 : rd w9 1247 172 = some 0 := by rw [show rd w9 1247 172 = some (w9 172) from rdw (c := 172) (by omega), hR.2.2.2.2.1]; rfl
    have hm : fX9_takesAll_b9 (Int32.ofNat t) TM (ff, Int32.ofNat (e3 + 1), fb, rp, w9) = some (.inr (0, 1, Int32.ofNat (e3 + 1), Int32.ofNat (e3 + 1), rp, w9)) := by
      unfold fX9_takesAll_b9
      dsimp only
      rw [e0, Option.bind_some, if_pos rfl]
      unfold fX9_takesDish
      rw [e0, Option.bind_some, q4, Option.bind_some, q5, Option.bind_some, if_pos rfl]
      rfl
    rw [show FU = 99999 + 1 from rfl, lp_S, hm, Option.bind_some, q2]
    exact Or.inl ⟨1, _, _, _, w9, rfl, rfl, gf⟩
end TH
/-- what the system has read, as a house -/
def TOLD (res : Int32 × Int32 × Int32 × YY) (A : AH) : Prop :=
  (yks res.2.2.2).length = zN A ∧ res.1 = Int32.ofNat (zF A) ∧ res.2.1 = zro A ∧ res.2.2.1 = zrp A ∧ zC A = 0 ∧ zY A = 1 ∧ zM A = 0 ∧
  ∀ k, k < zN A → zH A k = 0 ∧ zQ A k = k ∧ yAT res.2.2.2 k = Int32.ofNat (zA A k) ∧ yTO res.2.2.2 k = Int32.ofNat (zT A k) ∧ yWE res.2.2.2 k = Int32.ofNat (zX A k) ∧ yHE res.2.2.2 k = Int32.ofNat (zG A k) ∧ (yks res.2.2.2)[k]? = some (zK A k, Int32.ofNat k)
theorem zero_row (w : Nat → Int32) : ∃ r, lp (fX9_house_b2) FU (0, w) = some r ∧ (∀ i, i < 43 → r (172 + i) = 0) ∧ ∀ i, i < 172 ∨ 215 ≤ i → r i = w i := by
  refine lp_inv (fun (k : Nat) (s : Int32 × (Nat → Int32)) => s.1 = Int32.ofNat k ∧ (∀ i, i < k → s.2 (172 + i) = 0) ∧ ∀ i, i < 172 ∨ 215 ≤ i → s.2 i = w i) _ 43 (FUlt (by omega)) (fun k hk s hI => ?_) ⟨rfl, fun i h => by omega, fun i _ => rfl⟩
  obtain ⟨c, z⟩ := s
  obtain ⟨i1, i2, i3⟩ := hI
  dsimp only at i1 i2 i3
  subst i1
  unfold fX9_house_b2
  dsimp only
  by_cases e : k = 43
  · right
    rw [if_pos (show (43 : Int32) ≤ Int32.ofNat k from yle (a := 43) (b := k) (by omega) (by omega) (by omega))]
    subst e
    exact ⟨z, rfl, fun i hi => i2 i hi, i3⟩
  · left
    refine ⟨by omega, (Int32.ofNat (k + 1), upd z (172 + k) 0), ?_, rfl, ?_, ?_⟩
    · rw [if_neg (show ¬ (43 : Int32) ≤ Int32.ofNat k from nle (a := 43) (b := k) (by omega) (by omega) (by omega)), show wr z 1247 (172 + Int32.ofNat k) 0 = some (upd z (172 + k) 0) from wrc (c := 172) (by omega), Option.bind_some, o1]
    · intro i hi
      show upd z (172 + k) 0 (172 + i) = 0
      by_cases ek : i = k
      · subst ek; exact upd_same
      · rw [upd_ne (by omega)]; exact i2 i (by omega)
    · intro i hi
      show upd z (172 + k) 0 i = w i
      rw [upd_ne (by omega)]; exact i3 i hi
theorem act_house {t : Nat} {TA TM : Nat → Int32} (h : TP t TA TM) (w : Nat → Int32) (fu ff fb fn : Int32) :
    (∃ e p a v w', fX0_house (Int32.ofNat t) TA = some (.inr (e, p)) ∧ fX9_house w TM fu (Int32.ofNat t) ff fb fn = some ((-1000100) - p, fu, 0, e, a, p, v, w') ∧ ∀ j, j < 172 ∨ 215 ≤ j → w' j = w j) ∨
    (∃ res a v w' A, fX0_house (Int32.ofNat t) TA = some (.inl res) ∧ fX9_house w TM fu (Int32.ofNat t) ff fb fn = some (Int32.ofNat (zN A), 0, 0, ff, a, fb, v, w') ∧ 1 ≤ zN A ∧ OK A ∧ MR w' 0 A ∧ TOLD res A ∧ ∀ j, (43 ≤ j ∧ j < 172) ∨ 215 ≤ j → w' j = w j) := by
  obtain ⟨r1, z1, z2, z3⟩ := zero_row w
  unfold fX9_house fX0_house
  rw [z1, Option.bind_some, show wr r1 1247 177 1 = some (upd r1 177 1) from wrw (c := 177) (by omega), Option.bind_some]
  generalize hw2 : upd r1 177 1 = w2
  have g2 : ∀ j, j ≠ 177 → w2 j = r1 j := fun j hj => by rw [← hw2, upd_ne hj]
  have g2' : w2 177 = 1 := by rw [← hw2, upd_same]
  have gf : ∀ j, j < 172 ∨ 215 ≤ j → w2 j = w j := fun j hj => by rw [g2 j (by omega), z3 j hj]
  rcases text_lk h ff fb fn (w := w2) (by rw [g2 172 (by omega)]; exact z2 0 (by omega)) (by rw [g2 176 (by omega)]; exact z2 4 (by omega)) g2' (by rw [g2 178 (by omega)]; exact z2 6 (by omega)) with ⟨e, p, a, v, w', b1, b2, b3⟩ | ⟨F, ro, rp, y, i', v, w', n, K, At, To, X, G, b1, b2, b3, b4, b5, b6, b7⟩
  · rw [b2, Option.bind_some]
    exact Or.inl ⟨e, p, a, v, w', b1, rfl, fun j hj => (b3 j hj).trans (gf j hj)⟩
  · obtain ⟨hn6, hi, hT, hlen, w0, w1, w3, w4, w5, w6, w7, hD⟩ := b6
    obtain ⟨w9, c1, c2, c3⟩ := copyOf_eq (w := w') (a := 172) (b := 0) (by omega) (by omega) (by omega)
    have hA : ∃ A : AH, A = mkH n F 0 1 0 ro rp K (fun _ => 0) At To X G (fun k => k) := ⟨_, rfl⟩
    obtain ⟨A, hA⟩ := hA
    have e0 : w9 0 = Int32.ofNat n := (c2 0 (by omega)).trans w0
    rw [b2, Option.bind_some]
    dsimp only
    rw [if_neg (show ¬ (1 : Int32) = 0 by decide), show fX9_copyOf w' 172 0 = some w9 from c1, Option.bind_some, show rd w9 1247 0 = some (w9 0) from rdw (c := 0) (by omega), Option.bind_some, e0]
    refine Or.inr ⟨(Int32.ofNat F, ro, rp, y), i', v, w9, A, b1, by rw [hA]; rfl, by rw [hA]; exact b3, ?_, ?_, ?_, fun j hj => ?_⟩
    · rw [hA]
      refine ⟨hn6, b5, by show 0 < F; omega, Nat.le_refl 1, fun k hk => ?_⟩
      obtain ⟨⟨q1, q2, q3, q4, q5, q6⟩, -⟩ := hD k hk
      exact ⟨q1, Nat.zero_le 2, q2, q3, q4, q5, q6, hk⟩
    · rw [hA]
      refine ⟨e0, (c2 1 (by omega)).trans w1, (c2 2 (by omega)).trans w3, (c2 3 (by omega)).trans w4, (c2 4 (by omega)).trans w5, (c2 5 (by omega)).trans w6, (c2 6 (by omega)).trans w7, fun k hk => ?_⟩
      have hk' : k < n := hk
      obtain ⟨-, ⟨q1, q2, q3, q4, q5, q6⟩, -⟩ := hD k hk'
      refine ⟨?_, ?_, ?_, ?_, ?_, ?_⟩
      · rw [show 0 + 7 + k = 0 + (7 + k) by omega, c2 (7 + k) (by omega), show 172 + (7 + k) = 179 + k by omega]; exact q1
      · rw [show 0 + 13 + k = 0 + (13 + k) by omega, c2 (13 + k) (by omega), show 172 + (13 + k) = 185 + k by omega]; exact q2
      · rw [show 0 + 19 + k = 0 + (19 + k) by omega, c2 (19 + k) (by omega), show 172 + (19 + k) = 191 + k by omega]; exact q3
      · rw [show 0 + 25 + k = 0 + (25 + k) by omega, c2 (25 + k) (by omega), show 172 + (25 + k) = 197 + k by omega]; exact q4
      · rw [show 0 + 31 + k = 0 + (31 + k) by omega, c2 (31 + k) (by omega), show 172 + (31 + k) = 203 + k by omega]; exact q5
      · rw [show 0 + 37 + k = 0 + (37 + k) by omega, c2 (37 + k) (by omega), show 172 + (37 + k) = 209 + k by omega]; exact q6
    · rw [hA]
      refine ⟨hlen, rfl, rfl, rfl, rfl, rfl, rfl, fun k hk => ?_⟩
      obtain ⟨-, -, ⟨q1, q2, q3, q4⟩, q5⟩ := hD k hk
      exact ⟨rfl, rfl, q1, q2, q3, q4, q5⟩
    · rw [c3 j (by omega), b7 j (by omega), gf j (by omega)]
theorem told_SR {ln : Nat → Option Int32} {lf : Nat → Nat → Option Nat} {dk : Nat → Option Nat} {la : Nat} {res : Int32 × Int32 × Int32 × YY} {A : AH} (hv : HV) (hla : ln la = some (Int32.ofNat (zN A))) (hlg : ∀ k, k < zN A → ∃ e, lget ln lf la (Int32.ofNat k) = some e ∧ dk e = some (zK A k)) (hT : TOLD res A) (ok : OK A) : SR ln lf dk (becV hv (mvN la res)) A ∧ Htf (becV hv (mvN la res)) = (-1000000) ∧ Hla (becV hv (mvN la res)) = la := by
  obtain ⟨t1, t2, t3, t4, t5, t6, t7, t8⟩ := hT
  have hS : SR ln lf dk (mvN la res) A := by
    refine ⟨hla, t2, t3, t4, by rw [t5]; rfl, by rw [t6]; rfl, by rw [t7]; rfl, fun k hk => ?_⟩
    have k6 : k < 6 := by have := ok.1; omega
    obtain ⟨q1, q2, q3, q4, q5, q6, q7⟩ := t8 k hk
    obtain ⟨e, e1, e2⟩ := hlg k hk
    refine ⟨by rw [q1]; rfl, q3, q4, q5, q6, by rw [q2]; exact RK0_id ⟨k, k6⟩, e, ?_, e2⟩
    show fX1_dish ln lf dk la (-1000000) none (Int32.ofNat k) = some e
    unfold fX1_dish
    rw [if_neg (nNone k6), e1, Option.bind_some, e2, Option.bind_some]
  obtain ⟨v', b1, b2, b3, b4⟩ := become_eq (tv := hv) ok hS rfl
  rw [become_some] at b1
  rw [Option.some.inj b1]
  exact ⟨b2, b4, b3⟩
