/-! THE PLAIN LAW 23: the acts with the past -/
set_option maxRecDepth 100000
def IVs (ln : Nat → Option Int32) (lf : Nat → Nat → Option Nat) (dk : Nat → Option Nat) (IH : Nat → Option HV) (KP : Nat → Int32) (w : Nat → Int32) : Prop := ∀ j, j < 2 → (IH j = none → KP j = 0) ∧ ∀ v, IH j = some v → ¬ KP j = 0 ∧ ∃ B, KV ln lf dk v w (86 + 43 * j) B
def ni (IH : Nat → Option HV) (i : Nat) (x : Option HV) : Nat → Option HV := fun j => if j = i then x else IH j
/-- the house was kept, then changed -/
def CH (ln : Nat → Option Int32) (lf : Nat → Nat → Option Nat) (dk : Nat → Option Nat) (PH : Nat → HV) (g : Nat) (q hv' : HV) (w w' : Nat → Int32) : Prop := (∃ B, LV ln lf dk hv' w' B) ∧ PVs ln lf dk (pk PH g q) w' (gk g) ∧ ∀ i, 43 ≤ i → i < 215 → w' i = w i
section PB
variable {ln : Nat → Option Int32} {lf : Nat → Nat → Option Nat} {dk : Nat → Option Nat} {hv tv v qv : HV} {w : Nat → Int32} {A B : AH} {PH : Nat → HV} {g : Nat} {PA IA : Nat → Option Nat} {qa : Nat → Nat} {hs : Nat → Bool} {IH : Nat → Option HV} {KP : Nat → Int32}
theorem ch_of {q hv' : HV} {w1 w2 : Nat → Int32} {B : AH} (hP : PVs ln lf dk (pk PH g q) w1 (gk g)) (hlow : ∀ i, i < 215 → w1 i = w i) (hF : FR w1 w2 0) (hLV : LV ln lf dk hv' w2 B) : CH ln lf dk PH g q hv' w w2 :=
  ⟨⟨B, hLV⟩, hP.keep (fun i hi => hF i (by omega)), fun i h1 h2 => (hF i (by omega)).trans (hlow i h2)⟩

theorem act_pull_0 (hT : TV ln lf dk hv w) (hP : PVs ln lf dk PH w g) (hg : g < 24) (hPA : PA g = none) (p1 : Int32) : ∃ ans made hv' gc' q w', fX0_pull_0 hv (Int32.ofNat g) PA p1 = some (ans, made, hv', gc', q) ∧ fX9_pull w (Int32.ofNat g) p1 = some (ans, gc', w') ∧ ((made = false ∧ hv' = hv ∧ gc' = Int32.ofNat g ∧ w' = w) ∨ (made = true ∧ gc' = Int32.ofNat (gk g) ∧ CH ln lf dk PH g q hv' w w')) := by
  rcases hT with hE | ⟨A, hL⟩
  · refine ⟨-1000001, false, hv, Int32.ofNat g, hv0 0, w, ?_, ?_, Or.inl ⟨rfl, rfl, rfl, rfl⟩⟩
    · unfold fX0_pull_0
      rw [isFloor_s hE.2.1 (by omega), Option.bind_some, g01, if_neg (by omega)]
    · unfold fX9_pull
      rw [isFloor_m hE.2.2.2.2.1 (by omega), Option.bind_some, g01, if_neg (by omega)]
  · obtain ⟨hS, hm, ok, hN1, hM, hn⟩ := hL
    have hF9 := ok.2.1
    unfold fX0_pull_0 fX9_pull
    rw [isFloor_s hS.2.1 (by omega) p1, isFloor_m (w := w) (F := zF A) (by rw [← hm.2.1]) (by omega) p1, Option.bind_some, Option.bind_some, g01, g01]
    by_cases c1 : 0 ≤ p1.toInt ∧ p1.toInt < zF A
    · rw [if_pos c1, if_pos c1, show rd w 1247 4 = some (w 4) from r0n (c := 4) (by omega), show w 4 = _ from hm.2.2.2.2.1, hS.2.2.2.2.1, Option.bind_some]
      by_cases c2 : Int32.ofNat (zC A) = p1
      · rw [if_pos c2, if_pos c2]
        exact ⟨_, _, _, _, _, _, rfl, rfl, Or.inl ⟨rfl, rfl, rfl, rfl⟩⟩
      · obtain ⟨f, rfl, hf1, hf2⟩ := i32_of c1.1
        obtain ⟨q, s1, s2, s3⟩ := keep0_eq ok hS hn hg hPA
        obtain ⟨w1, m1, m2, m3⟩ := past_keep hm ok hN1 hM hP s2 s3
        have hm1 := hm.keep (w' := w1) ok.1 (fun i _ hi => m3 i (by omega))
        rw [if_neg c2, if_neg c2, s1, m1, Option.bind_some, Option.bind_some, Option.bind_some]
        dsimp only
        rw [show rd w1 1247 4 = some (w1 4) from r0n (c := 4) (by omega), show w1 4 = _ from hm1.2.2.2.2.1, Option.bind_some, show wr w1 1247 4 (Int32.ofNat f) = some (upd w1 (0 + 4) (Int32.ofNat f)) from wrn (k := 4) (by omega) (by omega), Option.bind_some]
        exact ⟨_, _, _, _, _, _, rfl, rfl, Or.inr ⟨rfl, rfl, ch_of m2 m3 (FR.upd1 (r := 0) (c := 4) (fun i _ => rfl) (by omega)) ⟨hS.ca f, hm1.ca ok.1 f, ok.ca (by omega), hN1, hM, hn⟩⟩⟩
    · rw [if_neg c1, if_neg c1]
      exact ⟨_, _, _, _, _, _, rfl, rfl, Or.inl ⟨rfl, rfl, rfl, rfl⟩⟩
theorem act_pull_1 (hT : TV ln lf dk hv w) (hP : PVs ln lf dk PH w g) (hk : kOK qa hs g PA) (qv : HV) (p1 : Int32) : ∃ ans hv' qv' gc' PA' w', fX0_pull_1 qa hs hv qv (Int32.ofNat g) PA p1 = some (ans, hv', qv', gc', PA') ∧ fX9_pull w (Int32.ofNat g) p1 = some (ans, gc', w') ∧ ((hv' = hv ∧ qv' = qv ∧ gc' = Int32.ofNat g ∧ PA' = PA ∧ w' = w) ∨ (gc' = Int32.ofNat (gk g) ∧ pr g PA PA' ∧ CH ln lf dk PH g qv' hv' w w')) := by
  rcases hT with hE | ⟨A, hL⟩
  · refine ⟨-1000001, hv, qv, Int32.ofNat g, PA, w, ?_, ?_, Or.inl ⟨rfl, rfl, rfl, rfl, rfl⟩⟩
    · unfold fX0_pull_1
      rw [isFloor_s hE.2.1 (by omega), Option.bind_some, g01, if_neg (by omega)]
    · unfold fX9_pull
      rw [isFloor_m hE.2.2.2.2.1 (by omega), Option.bind_some, g01, if_neg (by omega)]
  · obtain ⟨hS, hm, ok, hN1, hM, hn⟩ := hL
    have hF9 := ok.2.1
    unfold fX0_pull_1 fX9_pull
    rw [isFloor_s hS.2.1 (by omega) p1, isFloor_m (w := w) (F := zF A) (by rw [← hm.2.1]) (by omega) p1, Option.bind_some, Option.bind_some, g01, g01]
    by_cases c1 : 0 ≤ p1.toInt ∧ p1.toInt < zF A
    · rw [if_pos c1, if_pos c1, show rd w 1247 4 = some (w 4) from r0n (c := 4) (by omega), show w 4 = _ from hm.2.2.2.2.1, hS.2.2.2.2.1, Option.bind_some]
      by_cases c2 : Int32.ofNat (zC A) = p1
      · rw [if_pos c2, if_pos c2]
        exact ⟨_, _, _, _, _, _, rfl, rfl, Or.inl ⟨rfl, rfl, rfl, rfl, rfl⟩⟩
      · obtain ⟨f, rfl, hf1, hf2⟩ := i32_of c1.1
        obtain ⟨q, PA', s1, s2, s3, s4⟩ := keep1_eq qv ok hS hn hk
        obtain ⟨w1, m1, m2, m3⟩ := past_keep hm ok hN1 hM hP s2 s3
        have hm1 := hm.keep (w' := w1) ok.1 (fun i _ hi => m3 i (by omega))
        rw [if_neg c2, if_neg c2, s1, m1, Option.bind_some, Option.bind_some, Option.bind_some]
        dsimp only
        rw [show rd w1 1247 4 = some (w1 4) from r0n (c := 4) (by omega), show w1 4 = _ from hm1.2.2.2.2.1, Option.bind_some, show wr w1 1247 4 (Int32.ofNat f) = some (upd w1 (0 + 4) (Int32.ofNat f)) from wrn (k := 4) (by omega) (by omega), Option.bind_some]
        exact ⟨_, _, _, _, _, _, rfl, rfl, Or.inr ⟨rfl, s4, ch_of m2 m3 (FR.upd1 (r := 0) (c := 4) (fun i _ => rfl) (by omega)) ⟨hS.ca f, hm1.ca ok.1 f, ok.ca (by omega), hN1, hM, hn⟩⟩⟩
    · rw [if_neg c1, if_neg c1]
      exact ⟨_, _, _, _, _, _, rfl, rfl, Or.inl ⟨rfl, rfl, rfl, rfl, rfl⟩⟩
theorem act_rope_0 (hT : TV ln lf dk hv w) (hP : PVs ln lf dk PH w g) (hg : g < 24) (hPA : PA g = none) (p1 : Int32) : ∃ ans made hv' gc' q w', fX0_rope_0 hv (Int32.ofNat g) PA p1 = some (ans, made, hv', gc', q) ∧ fX9_rope w (Int32.ofNat g) p1 = some (ans, gc', w') ∧ ((made = false ∧ hv' = hv ∧ gc' = Int32.ofNat g ∧ w' = w) ∨ (made = true ∧ gc' = Int32.ofNat (gk g) ∧ CH ln lf dk PH g q hv' w w')) := by
  rcases hT with hE | ⟨A, hL⟩
  · obtain ⟨h1, h2⟩ := noHouse hE
    refine ⟨-1000002, false, hv, Int32.ofNat g, hv0 0, w, ?_, ?_, Or.inl ⟨rfl, rfl, rfl, rfl⟩⟩
    · unfold fX0_rope_0
      rw [h1, Option.bind_some, if_pos rfl]
    · unfold fX9_rope
      rw [h2, Option.bind_some, if_pos rfl]
  · obtain ⟨h1, h2⟩ := yesHouse hL
    obtain ⟨hS, hm, ok, hN1, hM, hn⟩ := hL
    unfold fX0_rope_0 fX9_rope
    rw [h1, h2, Option.bind_some, Option.bind_some, if_neg (show ¬ (1 : Int32) = 0 by decide), if_neg (show ¬ (1 : Int32) = 0 by decide), in_same, show fX0_isIn p1.toInt64 1 40 = _ from inl_eq p1 1 40 (by omega) (by omega), Option.bind_some, Option.bind_some, g01, g01]
    by_cases c1 : ((1 : Nat) : Int) ≤ p1.toInt ∧ p1.toInt ≤ ((40 : Nat) : Int)
    · obtain ⟨q, s1, s2, s3⟩ := keep0_eq ok hS hn hg hPA
      obtain ⟨w1, m1, m2, m3⟩ := past_keep hm ok hN1 hM hP s2 s3
      have hm1 := hm.keep (w' := w1) ok.1 (fun i _ hi => m3 i (by omega))
      rw [if_pos c1, if_pos c1, s1, m1, Option.bind_some, Option.bind_some, Option.bind_some]
      dsimp only
      rw [show rd w1 1247 3 = some (w1 3) from r0n (c := 3) (by omega), show w1 3 = _ from hm1.2.2.2.1, hS.2.2.2.1, Option.bind_some, show wr w1 1247 3 p1 = some (upd w1 (0 + 3) p1) from wrn (k := 3) (by omega) (by omega), Option.bind_some]
      exact ⟨_, _, _, _, _, _, rfl, rfl, Or.inr ⟨rfl, rfl, ch_of m2 m3 (FR.upd1 (r := 0) (c := 3) (fun i _ => rfl) (by omega)) ⟨hS.rp p1, hm1.rp ok.1 p1, ok.rp p1, hN1, hM, hn⟩⟩⟩
    · rw [if_neg c1, if_neg c1]
      exact ⟨_, _, _, _, _, _, rfl, rfl, Or.inl ⟨rfl, rfl, rfl, rfl⟩⟩
theorem act_rope_1 (hT : TV ln lf dk hv w) (hP : PVs ln lf dk PH w g) (hk : kOK qa hs g PA) (qv : HV) (p1 : Int32) : ∃ ans hv' qv' gc' PA' w', fX0_rope_1 qa hs hv qv (Int32.ofNat g) PA p1 = some (ans, hv', qv', gc', PA') ∧ fX9_rope w (Int32.ofNat g) p1 = some (ans, gc', w') ∧ ((hv' = hv ∧ qv' = qv ∧ gc' = Int32.ofNat g ∧ PA' = PA ∧ w' = w) ∨ (gc' = Int32.ofNat (gk g) ∧ pr g PA PA' ∧ CH ln lf dk PH g qv' hv' w w')) := by
  rcases hT with hE | ⟨A, hL⟩
  · obtain ⟨h1, h2⟩ := noHouse hE
    refine ⟨-1000002, hv, qv, Int32.ofNat g, PA, w, ?_, ?_, Or.inl ⟨rfl, rfl, rfl, rfl, rfl⟩⟩
    · unfold fX0_rope_1
      rw [h1, Option.bind_some, if_pos rfl]
    · unfold fX9_rope
      rw [h2, Option.bind_some, if_pos rfl]
  · obtain ⟨h1, h2⟩ := yesHouse hL
    obtain ⟨hS, hm, ok, hN1, hM, hn⟩ := hL
    unfold fX0_rope_1 fX9_rope
    rw [h1, h2, Option.bind_some, Option.bind_some, if_neg (show ¬ (1 : Int32) = 0 by decide), if_neg (show ¬ (1 : Int32) = 0 by decide), in_same, show fX0_isIn p1.toInt64 1 40 = _ from inl_eq p1 1 40 (by omega) (by omega), Option.bind_some, Option.bind_some, g01, g01]
    by_cases c1 : ((1 : Nat) : Int) ≤ p1.toInt ∧ p1.toInt ≤ ((40 : Nat) : Int)
    · obtain ⟨q, PA', s1, s2, s3, s4⟩ := keep1_eq qv ok hS hn hk
      obtain ⟨w1, m1, m2, m3⟩ := past_keep hm ok hN1 hM hP s2 s3
      have hm1 := hm.keep (w' := w1) ok.1 (fun i _ hi => m3 i (by omega))
      rw [if_pos c1, if_pos c1, s1, m1, Option.bind_some, Option.bind_some, Option.bind_some]
      dsimp only
      rw [show rd w1 1247 3 = some (w1 3) from r0n (c := 3) (by omega), show w1 3 = _ from hm1.2.2.2.1, hS.2.2.2.1, Option.bind_some, show wr w1 1247 3 p1 = some (upd w1 (0 + 3) p1) from wrn (k := 3) (by omega) (by omega), Option.bind_some]
      exact ⟨_, _, _, _, _, _, rfl, rfl, Or.inr ⟨rfl, s4, ch_of m2 m3 (FR.upd1 (r := 0) (c := 3) (fun i _ => rfl) (by omega)) ⟨hS.rp p1, hm1.rp ok.1 p1, ok.rp p1, hN1, hM, hn⟩⟩⟩
    · rw [if_neg c1, if_neg c1]
      exact ⟨_, _, _, _, _, _, rfl, rfl, Or.inl ⟨rfl, rfl, rfl, rfl, rfl⟩⟩
theorem act_room_0 (hT : TV ln lf dk hv w) (hP : PVs ln lf dk PH w g) (hg : g < 24) (hPA : PA g = none) (p1 : Int32) : ∃ ans made hv' gc' q w', fX0_room_0 hv (Int32.ofNat g) PA p1 = some (ans, made, hv', gc', q) ∧ fX9_room w (Int32.ofNat g) p1 = some (ans, gc', w') ∧ ((made = false ∧ hv' = hv ∧ gc' = Int32.ofNat g ∧ w' = w) ∨ (made = true ∧ gc' = Int32.ofNat (gk g) ∧ CH ln lf dk PH g q hv' w w')) := by
  rcases hT with hE | ⟨A, hL⟩
  · obtain ⟨h1, h2⟩ := noHouse hE
    refine ⟨-1000002, false, hv, Int32.ofNat g, hv0 0, w, ?_, ?_, Or.inl ⟨rfl, rfl, rfl, rfl⟩⟩
    · unfold fX0_room_0
      rw [h1, Option.bind_some, if_pos rfl]
    · unfold fX9_room
      rw [h2, Option.bind_some, if_pos rfl]
  · obtain ⟨h1, h2⟩ := yesHouse hL
    obtain ⟨hS, hm, ok, hN1, hM, hn⟩ := hL
    unfold fX0_room_0 fX9_room
    rw [h1, h2, Option.bind_some, Option.bind_some, if_neg (show ¬ (1 : Int32) = 0 by decide), if_neg (show ¬ (1 : Int32) = 0 by decide), in_same, show fX0_isIn p1.toInt64 1 4 = _ from inl_eq p1 1 4 (by omega) (by omega), Option.bind_some, Option.bind_some, g01, g01]
    by_cases c1 : ((1 : Nat) : Int) ≤ p1.toInt ∧ p1.toInt ≤ ((4 : Nat) : Int)
    · obtain ⟨q, s1, s2, s3⟩ := keep0_eq ok hS hn hg hPA
      obtain ⟨w1, m1, m2, m3⟩ := past_keep hm ok hN1 hM hP s2 s3
      have hm1 := hm.keep (w' := w1) ok.1 (fun i _ hi => m3 i (by omega))
      rw [if_pos c1, if_pos c1, s1, m1, Option.bind_some, Option.bind_some, Option.bind_some]
      dsimp only
      rw [show rd w1 1247 2 = some (w1 2) from r0n (c := 2) (by omega), show w1 2 = _ from hm1.2.2.1, hS.2.2.1, Option.bind_some, show wr w1 1247 2 p1 = some (upd w1 (0 + 2) p1) from wrn (k := 2) (by omega) (by omega), Option.bind_some]
      exact ⟨_, _, _, _, _, _, rfl, rfl, Or.inr ⟨rfl, rfl, ch_of m2 m3 (FR.upd1 (r := 0) (c := 2) (fun i _ => rfl) (by omega)) ⟨hS.ro p1, hm1.ro ok.1 p1, ok.ro p1, hN1, hM, hn⟩⟩⟩
    · rw [if_neg c1, if_neg c1]
      exact ⟨_, _, _, _, _, _, rfl, rfl, Or.inl ⟨rfl, rfl, rfl, rfl⟩⟩
theorem act_room_1 (hT : TV ln lf dk hv w) (hP : PVs ln lf dk PH w g) (hk : kOK qa hs g PA) (qv : HV) (p1 : Int32) : ∃ ans hv' qv' gc' PA' w', fX0_room_1 qa hs hv qv (Int32.ofNat g) PA p1 = some (ans, hv', qv', gc', PA') ∧ fX9_room w (Int32.ofNat g) p1 = some (ans, gc', w') ∧ ((hv' = hv ∧ qv' = qv ∧ gc' = Int32.ofNat g ∧ PA' = PA ∧ w' = w) ∨ (gc' = Int32.ofNat (gk g) ∧ pr g PA PA' ∧ CH ln lf dk PH g qv' hv' w w')) := by
  rcases hT with hE | ⟨A, hL⟩
  · obtain ⟨h1, h2⟩ := noHouse hE
    refine ⟨-1000002, hv, qv, Int32.ofNat g, PA, w, ?_, ?_, Or.inl ⟨rfl, rfl, rfl, rfl, rfl⟩⟩
    · unfold fX0_room_1
      rw [h1, Option.bind_some, if_pos rfl]
    · unfold fX9_room
      rw [h2, Option.bind_some, if_pos rfl]
  · obtain ⟨h1, h2⟩ := yesHouse hL
    obtain ⟨hS, hm, ok, hN1, hM, hn⟩ := hL
    unfold fX0_room_1 fX9_room
    rw [h1, h2, Option.bind_some, Option.bind_some, if_neg (show ¬ (1 : Int32) = 0 by decide), if_neg (show ¬ (1 : Int32) = 0 by decide), in_same, show fX0_isIn p1.toInt64 1 4 = _ from inl_eq p1 1 4 (by omega) (by omega), Option.bind_some, Option.bind_some, g01, g01]
    by_cases c1 : ((1 : Nat) : Int) ≤ p1.toInt ∧ p1.toInt ≤ ((4 : Nat) : Int)
    · obtain ⟨q, PA', s1, s2, s3, s4⟩ := keep1_eq qv ok hS hn hk
      obtain ⟨w1, m1, m2, m3⟩ := past_keep hm ok hN1 hM hP s2 s3
      have hm1 := hm.keep (w' := w1) ok.1 (fun i _ hi => m3 i (by omega))
      rw [if_pos c1, if_pos c1, s1, m1, Option.bind_some, Option.bind_some, Option.bind_some]
      dsimp only
      rw [show rd w1 1247 2 = some (w1 2) from r0n (c := 2) (by omega), show w1 2 = _ from hm1.2.2.1, hS.2.2.1, Option.bind_some, show wr w1 1247 2 p1 = some (upd w1 (0 + 2) p1) from wrn (k := 2) (by omega) (by omega), Option.bind_some]
      exact ⟨_, _, _, _, _, _, rfl, rfl, Or.inr ⟨rfl, s4, ch_of m2 m3 (FR.upd1 (r := 0) (c := 2) (fun i _ => rfl) (by omega)) ⟨hS.ro p1, hm1.ro ok.1 p1, ok.ro p1, hN1, hM, hn⟩⟩⟩
    · rw [if_neg c1, if_neg c1]
      exact ⟨_, _, _, _, _, _, rfl, rfl, Or.inl ⟨rfl, rfl, rfl, rfl, rfl⟩⟩
theorem act_send_0 (hT : TV ln lf dk hv w) (hP : PVs ln lf dk PH w g) (hg : g < 24) (hPA : PA g = none) (p1 p2 p3 : Int32) : ∃ ans made hv' gc' q w', fX0_send_0 ln hv (Int32.ofNat g) PA p1 p2 p3 = some (ans, made, hv', gc', q) ∧ fX9_send w (Int32.ofNat g) p1 p2 p3 = some (ans, gc', w') ∧ ((made = false ∧ hv' = hv ∧ gc' = Int32.ofNat g ∧ w' = w) ∨ (made = true ∧ gc' = Int32.ofNat (gk g) ∧ CH ln lf dk PH g q hv' w w')) := by
  rcases hT with hE | ⟨A, hL⟩
  · refine ⟨-1000001, false, hv, Int32.ofNat g, hv0 0, w, ?_, ?_, Or.inl ⟨rfl, rfl, rfl, rfl⟩⟩
    · unfold fX0_send_0
      rw [isDish_s hE.1 (by omega), Option.bind_some, g01, if_neg (by omega)]
    · unfold fX9_send
      rw [isDish_m hE.2.2.2.1 (by omega), Option.bind_some, g01, if_neg (by omega)]
  · obtain ⟨hS, hm, ok, hN1, hM, hn⟩ := hL
    have hN6 := ok.1
    have hF9 := ok.2.1
    unfold fX0_send_0 fX9_send
    rw [isDish_s hS.1 (by omega) p1, isDish_m (w := w) (N := zN A) (by rw [← hm.1]) (by omega) p1, Option.bind_some, Option.bind_some, g01, g01]
    by_cases c1 : 0 ≤ p1.toInt ∧ p1.toInt < zN A
    · rw [if_pos c1, if_pos c1, isFloor_s hS.2.1 (by omega) p2, isFloor_m (w := w) (F := zF A) (by rw [← hm.2.1]) (by omega) p2, Option.bind_some, Option.bind_some, g01, g01]
      by_cases c2 : 0 ≤ p2.toInt ∧ p2.toInt < zF A
      · rw [if_pos c2, if_pos c2, in_same, show fX0_isIn p3.toInt64 0 60 = _ from inl_eq p3 0 60 (by omega) (by omega), Option.bind_some, Option.bind_some, g01, g01]
        by_cases c3 : ((0 : Nat) : Int) ≤ p3.toInt ∧ p3.toInt ≤ ((60 : Nat) : Int)
        · obtain ⟨d, rfl, hd1, hd2⟩ := i32_of c1.1
          obtain ⟨f, rfl, hf1, hf2⟩ := i32_of c2.1
          obtain ⟨h, rfl, hh1, hh2⟩ := i32_of (show 0 ≤ p3.toInt by omega)
          have hd : d < zN A := by omega
          have hf : f < zF A := by omega
          have d6 : d < 6 := by omega
          have hg2 : (Int32.ofNat (zH A d) = 2) = (zH A d = 2) := q_eq (c := 2) (by have := (ok.2.2.2.2 d hd).2.1; omega) (by omega)
          rw [if_pos c3, if_pos c3, rdn d6 (by omega), (hS.2.2.2.2.2.2.2 d hd).1, show rd w 1247 (13 + Int32.ofNat d) = some (w (0 + 13 + d)) from by rw [Nat.zero_add]; exact rdc (c := 13) (by omega), show w (0 + 13 + d) = _ from mAT hm hd, Option.bind_some, Option.bind_some]
          by_cases c4 : zH A d = 2
          · rw [if_pos (Eq.mpr hg2 c4), if_pos (Eq.mpr (pos11b ok hd) c4), rdn d6 (by omega), (hS.2.2.2.2.2.2.2 d hd).2.2.1, show rd w 1247 (19 + Int32.ofNat d) = some (w (0 + 19 + d)) from by rw [Nat.zero_add]; exact rdc (c := 19) (by omega), show w (0 + 19 + d) = _ from (hm.2.2.2.2.2.2.2 d hd).2.2.1, Option.bind_some, Option.bind_some]
            by_cases c5 : Int32.ofNat (zT A d) = Int32.ofNat f
            · rw [if_pos c5, if_pos c5]
              exact ⟨_, _, _, _, _, _, rfl, rfl, Or.inl ⟨rfl, rfl, rfl, rfl⟩⟩
            · obtain ⟨q, s1, s2, s3⟩ := keep0_eq ok hS hn hg hPA
              obtain ⟨w1, m1, m2, m3⟩ := past_keep hm ok hN1 hM hP s2 s3
              have hm1 := hm.keep (w' := w1) ok.1 (fun i _ hi => m3 i (by omega))
              obtain ⟨v2, a1, a2, -, a4, -⟩ := send_eq (f := f) (g := h) ok hS hd
              obtain ⟨w2, b1, b2, b3⟩ := sendsBack_eq (r := 0) (f := f) (g := h) (by omega) ok hm1 hd
              have okd := ok.sd hd hf (g := h) (by omega)
              rw [if_neg c5, if_neg c5, s1, m1, Option.bind_some, Option.bind_some]
              dsimp only
              rw [a1, show fX9_sendsBack w1 0 (Int32.ofNat d) (Int32.ofNat f) (Int32.ofNat h) = _ from b1, Option.bind_some, Option.bind_some, areSo2 okd a2, show fX9_servedOf w2 0 = _ from servedOf_v (r := 0) (by omega) okd b2, Option.bind_some, Option.bind_some]
              exact ⟨_, _, _, _, _, _, rfl, rfl, Or.inr ⟨rfl, rfl, ch_of m2 m3 b3 ⟨a2, b2, okd, hN1, hM, a4.trans hn⟩⟩⟩
          · rw [if_neg (fun h => c4 (Eq.mp hg2 h)), if_neg (fun h => c4 (Eq.mp (pos11b ok hd) h))]
            exact ⟨_, _, _, _, _, _, rfl, rfl, Or.inl ⟨rfl, rfl, rfl, rfl⟩⟩
        · rw [if_neg c3, if_neg c3]
          exact ⟨_, _, _, _, _, _, rfl, rfl, Or.inl ⟨rfl, rfl, rfl, rfl⟩⟩
      · rw [if_neg c2, if_neg c2]
        exact ⟨_, _, _, _, _, _, rfl, rfl, Or.inl ⟨rfl, rfl, rfl, rfl⟩⟩
    · rw [if_neg c1, if_neg c1]
      exact ⟨_, _, _, _, _, _, rfl, rfl, Or.inl ⟨rfl, rfl, rfl, rfl⟩⟩
theorem act_send_1 (hT : TV ln lf dk hv w) (hP : PVs ln lf dk PH w g) (hk : kOK qa hs g PA) (qv : HV) (p1 p2 p3 : Int32) : ∃ ans hv' qv' gc' PA' w', fX0_send_1 ln qa hs hv qv (Int32.ofNat g) PA p1 p2 p3 = some (ans, hv', qv', gc', PA') ∧ fX9_send w (Int32.ofNat g) p1 p2 p3 = some (ans, gc', w') ∧ ((hv' = hv ∧ qv' = qv ∧ gc' = Int32.ofNat g ∧ PA' = PA ∧ w' = w) ∨ (gc' = Int32.ofNat (gk g) ∧ pr g PA PA' ∧ CH ln lf dk PH g qv' hv' w w')) := by
  rcases hT with hE | ⟨A, hL⟩
  · refine ⟨-1000001, hv, qv, Int32.ofNat g, PA, w, ?_, ?_, Or.inl ⟨rfl, rfl, rfl, rfl, rfl⟩⟩
    · unfold fX0_send_1
      rw [isDish_s hE.1 (by omega), Option.bind_some, g01, if_neg (by omega)]
    · unfold fX9_send
      rw [isDish_m hE.2.2.2.1 (by omega), Option.bind_some, g01, if_neg (by omega)]
  · obtain ⟨hS, hm, ok, hN1, hM, hn⟩ := hL
    have hN6 := ok.1
    have hF9 := ok.2.1
    unfold fX0_send_1 fX9_send
    rw [isDish_s hS.1 (by omega) p1, isDish_m (w := w) (N := zN A) (by rw [← hm.1]) (by omega) p1, Option.bind_some, Option.bind_some, g01, g01]
    by_cases c1 : 0 ≤ p1.toInt ∧ p1.toInt < zN A
    · rw [if_pos c1, if_pos c1, isFloor_s hS.2.1 (by omega) p2, isFloor_m (w := w) (F := zF A) (by rw [← hm.2.1]) (by omega) p2, Option.bind_some, Option.bind_some, g01, g01]
      by_cases c2 : 0 ≤ p2.toInt ∧ p2.toInt < zF A
      · rw [if_pos c2, if_pos c2, in_same, show fX0_isIn p3.toInt64 0 60 = _ from inl_eq p3 0 60 (by omega) (by omega), Option.bind_some, Option.bind_some, g01, g01]
        by_cases c3 : ((0 : Nat) : Int) ≤ p3.toInt ∧ p3.toInt ≤ ((60 : Nat) : Int)
        · obtain ⟨d, rfl, hd1, hd2⟩ := i32_of c1.1
          obtain ⟨f, rfl, hf1, hf2⟩ := i32_of c2.1
          obtain ⟨h, rfl, hh1, hh2⟩ := i32_of (show 0 ≤ p3.toInt by omega)
          have hd : d < zN A := by omega
          have hf : f < zF A := by omega
          have d6 : d < 6 := by omega
          have hg2 : (Int32.ofNat (zH A d) = 2) = (zH A d = 2) := q_eq (c := 2) (by have := (ok.2.2.2.2 d hd).2.1; omega) (by omega)
          rw [if_pos c3, if_pos c3, rdn d6 (by omega), (hS.2.2.2.2.2.2.2 d hd).1, show rd w 1247 (13 + Int32.ofNat d) = some (w (0 + 13 + d)) from by rw [Nat.zero_add]; exact rdc (c := 13) (by omega), show w (0 + 13 + d) = _ from mAT hm hd, Option.bind_some, Option.bind_some]
          by_cases c4 : zH A d = 2
          · rw [if_pos (Eq.mpr hg2 c4), if_pos (Eq.mpr (pos11b ok hd) c4), rdn d6 (by omega), (hS.2.2.2.2.2.2.2 d hd).2.2.1, show rd w 1247 (19 + Int32.ofNat d) = some (w (0 + 19 + d)) from by rw [Nat.zero_add]; exact rdc (c := 19) (by omega), show w (0 + 19 + d) = _ from (hm.2.2.2.2.2.2.2 d hd).2.2.1, Option.bind_some, Option.bind_some]
            by_cases c5 : Int32.ofNat (zT A d) = Int32.ofNat f
            · rw [if_pos c5, if_pos c5]
              exact ⟨_, _, _, _, _, _, rfl, rfl, Or.inl ⟨rfl, rfl, rfl, rfl, rfl⟩⟩
            · obtain ⟨q, PA', s1, s2, s3, s4⟩ := keep1_eq qv ok hS hn hk
              obtain ⟨w1, m1, m2, m3⟩ := past_keep hm ok hN1 hM hP s2 s3
              have hm1 := hm.keep (w' := w1) ok.1 (fun i _ hi => m3 i (by omega))
              obtain ⟨v2, a1, a2, -, a4, -⟩ := send_eq (f := f) (g := h) ok hS hd
              obtain ⟨w2, b1, b2, b3⟩ := sendsBack_eq (r := 0) (f := f) (g := h) (by omega) ok hm1 hd
              have okd := ok.sd hd hf (g := h) (by omega)
              rw [if_neg c5, if_neg c5, s1, m1, Option.bind_some, Option.bind_some]
              dsimp only
              rw [a1, show fX9_sendsBack w1 0 (Int32.ofNat d) (Int32.ofNat f) (Int32.ofNat h) = _ from b1, Option.bind_some, Option.bind_some, areSo2 okd a2, show fX9_servedOf w2 0 = _ from servedOf_v (r := 0) (by omega) okd b2, Option.bind_some, Option.bind_some]
              exact ⟨_, _, _, _, _, _, rfl, rfl, Or.inr ⟨rfl, s4, ch_of m2 m3 b3 ⟨a2, b2, okd, hN1, hM, a4.trans hn⟩⟩⟩
          · rw [if_neg (fun h => c4 (Eq.mp hg2 h)), if_neg (fun h => c4 (Eq.mp (pos11b ok hd) h))]
            exact ⟨_, _, _, _, _, _, rfl, rfl, Or.inl ⟨rfl, rfl, rfl, rfl, rfl⟩⟩
        · rw [if_neg c3, if_neg c3]
          exact ⟨_, _, _, _, _, _, rfl, rfl, Or.inl ⟨rfl, rfl, rfl, rfl, rfl⟩⟩
      · rw [if_neg c2, if_neg c2]
        exact ⟨_, _, _, _, _, _, rfl, rfl, Or.inl ⟨rfl, rfl, rfl, rfl, rfl⟩⟩
    · rw [if_neg c1, if_neg c1]
      exact ⟨_, _, _, _, _, _, rfl, rfl, Or.inl ⟨rfl, rfl, rfl, rfl, rfl⟩⟩
theorem act_undo_z : fX0_undo_0 0 = some (-1000002) ∧ fX9_undo w 0 = some (-1000002, 0, w) := ⟨rfl, rfl⟩
theorem act_undo_1 (hP : PVs ln lf dk PH w (g + 1)) (hPA : PA g = some (qa 0)) : ∃ v' w', fX0_undo_1 qa hv (PH g) (Int32.ofNat (g + 1)) PA = some (Int32.ofNat g, v', Int32.ofNat g) ∧ fX9_undo w (Int32.ofNat (g + 1)) = some (Int32.ofNat g, Int32.ofNat g, w') ∧ (∃ B, LV ln lf dk v' w' B) ∧ ∀ i, 43 ≤ i → w' i = w i := by
  have hg := hP.1
  obtain ⟨B, hS, hm, ok, hN1, hM, hn⟩ := hP.2 g (by omega)
  obtain ⟨v', h1, h2, -, h4⟩ := become_eq (tv := hv) ok hS hn
  obtain ⟨w', k1, k2, k3⟩ := copyOf_eq (w := w) (a := 215 + 43 * g) (b := 0) (by omega) (by omega) (by omega)
  have hm1 : Int32.ofNat (g + 1) - 1 = Int32.ofNat g := by rw [← o1, Int32.add_sub_cancel]
  have hnz : ¬ Int32.ofNat (g + 1) = 0 := one (g + 1) (c := 0) (by omega) (by omega) (by omega)
  refine ⟨v', w', ?_, ?_, ⟨B, h2, hm.move ok.1 (b := 0) k2, ok, hN1, hM, h4⟩, fun i hi => k3 i (by omega)⟩
  · unfold fX0_undo_1
    rw [if_neg hnz, hm1, rdqn (k := g) (by omega) (by omega), hPA, Option.bind_some, Option.bind_some, show eqa (qa 0) (qa 0) = some () from if_pos rfl, Option.bind_some, h1, Option.bind_some]
  · unfold fX9_undo
    rw [if_neg hnz, hm1, row_ix, show fX9_copyOf w (Int32.ofNat (215 + 43 * g)) 0 = _ from k1, Option.bind_some]
theorem i01 {p1 : Int32} (h : 0 ≤ p1.toInt ∧ p1.toInt ≤ 1) : ∃ i, p1 = Int32.ofNat i ∧ i < 2 := by
  obtain ⟨i, rfl, h1, h2⟩ := i32_of h.1
  exact ⟨i, rfl, by omega⟩
theorem isH (p : Int32) : fX0_isIn p.toInt64 0 1 = some (if 0 ≤ p.toInt ∧ p.toInt ≤ 1 then 1 else 0) := inl_eq p 0 1 (by omega) (by omega)
theorem row_im {i : Nat} : (86 + (43 * Int32.ofNat i) : Int32) = Int32.ofNat (86 + 43 * i) := by rw [show (43 : Int32) = Int32.ofNat 43 from rfl, show (86 : Int32) = Int32.ofNat 86 from rfl, ← Int32.ofNat_mul, oadd]
theorem act_restore_0 (hI : IVs ln lf dk IH KP w) (gc p1 : Int32) (h : (0 ≤ p1.toInt ∧ p1.toInt ≤ 1) → IH p1.toNatClampNeg = none ∧ IA p1.toNatClampNeg = none) : ∃ ans, fX0_restore_0 IA p1 = some ans ∧ fX9_restore w KP gc p1 = some (ans, gc, w) := by
  unfold fX0_restore_0 fX9_restore
  rw [isH, in_same, isH, Option.bind_some, Option.bind_some, g01, g01]
  by_cases c : 0 ≤ p1.toInt ∧ p1.toInt ≤ 1
  · obtain ⟨h1, h2⟩ := h c
    obtain ⟨i, rfl, hi⟩ := i01 c
    rw [tnc (by omega)] at h1 h2
    rw [if_pos c, if_pos c, rdqn hi (by omega), h2, rdn hi (by omega), (hI i hi).1 h1, Option.bind_some, Option.bind_some, if_pos rfl, if_pos rfl]
    exact ⟨_, rfl, rfl⟩
  · rw [if_neg c, if_neg c]; exact ⟨_, rfl, rfl⟩
theorem act_restore_1 (hI : IVs ln lf dk IH KP w) (gc : Int32) {i : Nat} (hi : i < 2) (hq : IH i = some qv) (hA : IA i = some (qa 0)) : ∃ v' w', fX0_restore_1 qa hv qv gc IA (Int32.ofNat i) = some (1, v', 0) ∧ fX9_restore w KP gc (Int32.ofNat i) = some (1, 0, w') ∧ (∃ B, LV ln lf dk v' w' B) ∧ ∀ j, 43 ≤ j → w' j = w j := by
  obtain ⟨hk, B, hS, hm, ok, hN1, hM, hn⟩ := (hI i hi).2 qv hq
  obtain ⟨v', h1, h2, -, h4⟩ := become_eq (tv := hv) ok hS hn
  obtain ⟨w', k1, k2, k3⟩ := copyOf_eq (w := w) (a := 86 + 43 * i) (b := 0) (by omega) (by omega) (by omega)
  have hc : 0 ≤ (Int32.ofNat i).toInt ∧ (Int32.ofNat i).toInt ≤ 1 := by rw [Int32.toInt_ofNat_of_lt (by omega)]; omega
  refine ⟨v', w', ?_, ?_, ⟨B, h2, hm.move ok.1 (b := 0) k2, ok, hN1, hM, h4⟩, fun j hj => k3 j (by omega)⟩
  · unfold fX0_restore_1
    rw [isH, Option.bind_some, g01, if_pos hc, rdqn hi (by omega), hA, Option.bind_some, if_neg (by simp), Option.bind_some, Option.bind_some, show eqa (qa 0) (qa 0) = some () from if_pos rfl, Option.bind_some, h1, Option.bind_some]
  · unfold fX9_restore
    rw [in_same, isH, Option.bind_some, g01, if_pos hc, rdn hi (by omega), Option.bind_some, if_neg hk, row_im, show fX9_copyOf w (Int32.ofNat (86 + 43 * i)) 0 = _ from k1, Option.bind_some]
theorem wrZ1 {i : Nat} (hi : i < 2) : wrZ KP 2 (Int32.ofNat i) 1 = some (upd KP i 1) := by
  unfold wrZ
  rw [tnc (by omega), if_neg (fun h => h.elim (fun h => nneg (k := i) (by omega) h) (fun h => by omega))]
  rfl
theorem image_keep (hI : IVs ln lf dk IH KP w) (hm : MR w 0 A) (ok : OK A) (hN1 : 1 ≤ zN A) (hM : zM A ≤ 999) {q : HV} (hq : SR ln lf dk q A) (hqn : Htf q = (-1000000)) {i : Nat} (hi : i < 2) : ∃ w', fX9_copyOf w 0 (86 + (43 * Int32.ofNat i)) = some w' ∧ IVs ln lf dk (ni IH i (some q)) (upd KP i 1) w' ∧ ∀ j, j < 86 ∨ 172 ≤ j → w' j = w j := by
  obtain ⟨w', k1, k2, k3⟩ := copyOf_eq (w := w) (a := 0) (b := 86 + 43 * i) (by omega) (by omega) (by omega)
  refine ⟨w', by rw [row_im]; exact k1, fun j hj => ?_, fun j hj => k3 j (by omega)⟩
  unfold ni
  by_cases e : j = i
  · subst e
    rw [if_pos rfl, upd_same]
    refine ⟨fun h => (by cases h), fun v hv => ?_⟩
    cases hv
    exact ⟨by decide, A, hq, hm.move ok.1 k2, ok, hN1, hM, hqn⟩
  · rw [if_neg e, upd_ne e]
    refine ⟨(hI j hj).1, fun v hv => ?_⟩
    obtain ⟨a1, B, a2⟩ := (hI j hj).2 v hv
    exact ⟨a1, B, a2.keep (fun k h1 h2 => k3 k (by omega))⟩
theorem act_image_0 (hT : TV ln lf dk hv w) (hI : IVs ln lf dk IH KP w) (p1 : Int32) (h : (0 ≤ p1.toInt ∧ p1.toInt ≤ 1) → IA p1.toNatClampNeg = none) : ∃ ans made q w' KP', fX0_image_0 hv IA p1 = some (ans, made, q) ∧ fX9_image w KP p1 = some (ans, w', KP') ∧ ((made = false ∧ w' = w ∧ KP' = KP) ∨ (made = true ∧ (∃ i, p1 = Int32.ofNat i ∧ i < 2 ∧ IVs ln lf dk (ni IH i (some q)) KP' w') ∧ ∀ j, j < 86 ∨ 172 ≤ j → w' j = w j)) := by
  unfold fX0_image_0 fX9_image
  rw [isH, in_same, isH, Option.bind_some, Option.bind_some, g01, g01]
  by_cases c : 0 ≤ p1.toInt ∧ p1.toInt ≤ 1
  · have h1 := h c
    obtain ⟨i, rfl, hi⟩ := i01 c
    rw [tnc (by omega)] at h1
    rw [if_pos c, if_pos c]
    rcases hT with hE | ⟨A, hL⟩
    · obtain ⟨e1, e2⟩ := noHouse hE
      rw [e1, e2, Option.bind_some, Option.bind_some, if_pos rfl, if_pos rfl]
      exact ⟨_, _, _, _, _, rfl, rfl, Or.inl ⟨rfl, rfl, rfl⟩⟩
    · obtain ⟨e1, e2⟩ := yesHouse hL
      obtain ⟨hS, hm, ok, hN1, hM, hn⟩ := hL
      obtain ⟨q, b1, b2, -, b4⟩ := become_eq (tv := hv0 0) ok hS hn
      obtain ⟨w', k1, k2, k3⟩ := image_keep hI hm ok hN1 hM b2 b4 hi
      have hgi : gix 2 (Int32.ofNat i) = some () := by
        unfold gix
        rw [tnc (by omega), if_neg (fun h => h.elim (fun h => nneg (k := i) (by omega) h) (fun h => by omega))]
      rw [e1, e2, Option.bind_some, Option.bind_some, if_neg (show ¬ (1 : Int32) = 0 by decide), if_neg (show ¬ (1 : Int32) = 0 by decide), rdqn hi (by omega), h1, Option.bind_some, if_pos rfl, hgi, Option.bind_some, b1, Option.bind_some, k1, Option.bind_some, wrZ1 hi, Option.bind_some]
      exact ⟨_, _, _, _, _, rfl, rfl, Or.inr ⟨rfl, ⟨i, rfl, hi, k2⟩, k3⟩⟩
  · rw [if_neg c, if_neg c]; exact ⟨_, _, _, _, _, rfl, rfl, Or.inl ⟨rfl, rfl, rfl⟩⟩
theorem act_image_1 (hT : TV ln lf dk hv w) (hI : IVs ln lf dk IH KP w) {i : Nat} (hi : i < 2) (hq : IH i = some qv) (hA : IA i = some (qa 0)) : ∃ ans q w' KP', fX0_image_1 qa hv qv IA (Int32.ofNat i) = some (ans, q) ∧ fX9_image w KP (Int32.ofNat i) = some (ans, w', KP') ∧ IVs ln lf dk (ni IH i (some q)) KP' w' ∧ ∀ j, j < 86 ∨ 172 ≤ j → w' j = w j := by
  have hc : 0 ≤ (Int32.ofNat i).toInt ∧ (Int32.ofNat i).toInt ≤ 1 := by rw [Int32.toInt_ofNat_of_lt (by omega)]; omega
  unfold fX0_image_1 fX9_image
  rw [isH, in_same, isH, Option.bind_some, Option.bind_some, g01, g01, if_pos hc, if_pos hc]
  rcases hT with hE | ⟨A, hL⟩
  · obtain ⟨e1, e2⟩ := noHouse hE
    rw [e1, e2, Option.bind_some, Option.bind_some, if_pos rfl, if_pos rfl]
    refine ⟨_, _, _, _, rfl, rfl, fun j hj => ?_, fun j _ => rfl⟩
    unfold ni
    by_cases e : j = i
    · subst e; rw [if_pos rfl, ← hq]; exact hI j hj
    · rw [if_neg e]; exact hI j hj
  · obtain ⟨e1, e2⟩ := yesHouse hL
    obtain ⟨hS, hm, ok, hN1, hM, hn⟩ := hL
    obtain ⟨q, b1, b2, -, b4⟩ := become_eq (tv := qv) ok hS hn
    obtain ⟨w', k1, k2, k3⟩ := image_keep hI hm ok hN1 hM b2 b4 hi
    rw [e1, e2, Option.bind_some, Option.bind_some, if_neg (show ¬ (1 : Int32) = 0 by decide), if_neg (show ¬ (1 : Int32) = 0 by decide), rdqn hi (by omega), hA, Option.bind_some, if_neg (by simp), Option.bind_some, Option.bind_some, Option.bind_some, show eqa (qa 0) (qa 0) = some () from if_pos rfl, Option.bind_some, b1, Option.bind_some, k1, Option.bind_some, wrZ1 hi, Option.bind_some]
    exact ⟨_, _, _, _, rfl, rfl, k2, k3⟩
end PB
