/-! THE PLAIN LAW 27: figures and signs -/
set_option maxRecDepth 100000
def tkc (c : Nat) : Int32 := if 97 ≤ c ∧ c ≤ 122 then 1 else if c = 44 then 3 else if c = 59 then 4 else 5
theorem tkc_1 (c : Nat) : (tkc c = 1) = (97 ≤ c ∧ c ≤ 122) := by
  apply propext
  unfold tkc
  by_cases h1 : 97 ≤ c ∧ c ≤ 122
  · rw [if_pos h1]; exact ⟨fun _ => h1, fun _ => rfl⟩
  · rw [if_neg h1]
    refine ⟨fun h => ?_, fun h => absurd h h1⟩
    exfalso
    revert h
    split
    · decide
    · split <;> decide
theorem tkc_2 (c : Nat) : ¬ tkc c = 2 := by
  unfold tkc
  split
  · decide
  · split
    · decide
    · split <;> decide
theorem tkc_3 (c : Nat) : (tkc c = 3) = (c = 44) := by
  apply propext
  unfold tkc
  by_cases h1 : 97 ≤ c ∧ c ≤ 122
  · rw [if_pos h1]; exact ⟨fun h => absurd h (by decide), fun h => by omega⟩
  · rw [if_neg h1]
    by_cases h2 : c = 44
    · rw [if_pos h2]; exact ⟨fun _ => h2, fun _ => rfl⟩
    · rw [if_neg h2]
      refine ⟨fun h => ?_, fun h => absurd h h2⟩
      exfalso
      revert h
      split <;> decide
theorem tkc_4 (c : Nat) : (tkc c = 4) = (c = 59) := by
  apply propext
  unfold tkc
  by_cases h1 : 97 ≤ c ∧ c ≤ 122
  · rw [if_pos h1]; exact ⟨fun h => absurd h (by decide), fun h => by omega⟩
  · rw [if_neg h1]
    by_cases h2 : c = 44
    · rw [if_pos h2]; exact ⟨fun h => absurd h (by decide), fun h => by omega⟩
    · rw [if_neg h2]
      by_cases h3 : c = 59
      · rw [if_pos h3]; exact ⟨fun _ => h3, fun _ => rfl⟩
      · rw [if_neg h3]; exact ⟨fun h => absurd h (by decide), fun h => absurd h h3⟩
theorem e_sub {e i : Nat} (h : i ≤ e) (he : e ≤ 200) : Int32.ofNat e - Int32.ofNat i = Int32.ofNat (e - i) := by
  have : Int32.ofNat e = Int32.ofNat (e - i) + Int32.ofNat i := by rw [oadd, Nat.sub_add_cancel h]
  rw [this, Int32.add_sub_cancel]
section TK
variable {t : Nat} {TA TM : Nat → Int32}
/-- the three sorts of a token at i -/
def Tk (t : Nat) (TA TM : Nat → Int32) (i : Nat) (s : Int32 × Int32 × Int32 × Int32) : Prop :=
  (i = t ∧ s = (Int32.ofNat i, 0, Int32.ofNat i, -1000000)) ∨
  (∃ c, i < t ∧ c < 256 ∧ fX9_here TM (Int32.ofNat t) (Int32.ofNat i) = some (Int32.ofNat c) ∧ ¬ (48 ≤ c ∧ c ≤ 57) ∧ s = (Int32.ofNat (i + 1), tkc c, Int32.ofNat i, Int32.ofNat c)) ∨
  (∃ c e v, i < e ∧ e ≤ t ∧ c < 256 ∧ fX9_here TM (Int32.ofNat t) (Int32.ofNat i) = some (Int32.ofNat c) ∧ 48 ≤ c ∧ c ≤ 57 ∧ lp (fX9_takesNumber_b10 (Int32.ofNat t) (Int32.ofNat i) TM) FU (Int32.ofNat i, 0) = some (Int32.ofNat e, v) ∧ s = (Int32.ofNat e, if 2 < e - i then 5 else 2, Int32.ofNat i, v))
theorem next_eq (h : TP t TA TM) {i : Nat} (hi : i ≤ t) : ∃ s, fX12_next (Int32.ofNat t) (Int32.ofNat i) TA = some s ∧ Tk t TA TM i s := by
  have ht := h.1
  by_cases hlt : i < t
  · obtain ⟨c, c1, c2, c3⟩ := chr_eq h hlt
    have hc : ¬ Int32.ofNat c = (-1000000) := fun q => by
      have := congrArg Int32.toInt q
      rw [Int32.toInt_ofNat_of_lt (by omega)] at this
      have : (c : Int) = -1000000 := this
      omega
    unfold fX12_next
    rw [c2, Option.bind_some, if_neg hc, dg_eq c1, Option.bind_some, g01]
    by_cases c4 : 48 ≤ c ∧ c ≤ 57
    · obtain ⟨e, v, d1, d2, d3, d4, d5⟩ := digits h hi
      have hie : i < e := d5.mp ⟨c, c1, c3, c4⟩
      have h2 : (2 < Int32.ofNat e - Int32.ofNat i) = (2 < e - i) := by rw [e_sub d3 (by omega)]; exact q_lt (a := 2) (by omega) (by omega)
      rw [if_pos c4, d1, Option.bind_some]
      dsimp only
      by_cases c5 : 2 < e - i
      · rw [if_pos (Eq.mpr h2 c5), Option.bind_some]
        exact ⟨_, rfl, Or.inr (Or.inr ⟨c, e, v, hie, d4, c1, c3, c4.1, c4.2, d2, by rw [if_pos c5]⟩)⟩
      · rw [if_neg (fun q => c5 (Eq.mp h2 q)), Option.bind_some]
        exact ⟨_, rfl, Or.inr (Or.inr ⟨c, e, v, hie, d4, c1, c3, c4.1, c4.2, d2, by rw [if_neg c5]⟩)⟩
    · rw [if_neg c4, al_eq c1, Option.bind_some, g01, o1]
      have g44 : (Int32.ofNat c = 44) = (c = 44) := q_eq (c := 44) (by omega) (by omega)
      have g59 : (Int32.ofNat c = 59) = (c = 59) := q_eq (c := 59) (by omega) (by omega)
      by_cases c5 : 97 ≤ c ∧ c ≤ 122
      · rw [if_pos c5, Option.bind_some]
        exact ⟨_, rfl, Or.inr (Or.inl ⟨c, hlt, c1, c3, c4, by unfold tkc; rw [if_pos c5]⟩)⟩
      · rw [if_neg c5]
        by_cases c6 : c = 44
        · rw [if_pos (Eq.mpr g44 c6), Option.bind_some]
          exact ⟨_, rfl, Or.inr (Or.inl ⟨c, hlt, c1, c3, c4, by unfold tkc; rw [if_neg c5, if_pos c6]⟩)⟩
        · rw [if_neg (fun q => c6 (Eq.mp g44 q))]
          by_cases c7 : c = 59
          · rw [if_pos (Eq.mpr g59 c7), Option.bind_some]
            exact ⟨_, rfl, Or.inr (Or.inl ⟨c, hlt, c1, c3, c4, by unfold tkc; rw [if_neg c5, if_neg c6, if_pos c7]⟩)⟩
          · rw [if_neg (fun q => c7 (Eq.mp g59 q)), Option.bind_some]
            exact ⟨_, rfl, Or.inr (Or.inl ⟨c, hlt, c1, c3, c4, by unfold tkc; rw [if_neg c5, if_neg c6, if_neg c7]⟩)⟩
  · have he : i = t := by omega
    obtain ⟨e1, e2⟩ := chr_end h (j := i) (by omega) (by omega)
    unfold fX12_next
    rw [e1, Option.bind_some, if_pos rfl]
    exact ⟨_, rfl, Or.inl ⟨he, rfl⟩⟩
/-- a figure, on both sides -/
theorem fig_eq (h : TP t TA TM) {i : Nat} (hi : i ≤ t) {s : Int32 × Int32 × Int32 × Int32} (hs : Tk t TA TM i s) (lo hi' ff fb : Int32) :
    (∃ e s', e ≤ t ∧ Tk t TA TM e s' ∧ fX12_figure (Int32.ofNat t) s.1 s.2.1 s.2.2.1 s.2.2.2 TA lo hi' = some (.inl (s.2.2.2, s'.1, s'.2.1, s'.2.2.1, s'.2.2.2)) ∧ fX9_takesNumber TM (Int32.ofNat t) ff (Int32.ofNat i) fb lo hi' = some (1, ff, Int32.ofNat e, fb, s.2.2.2) ∧ lo.toInt ≤ s.2.2.2.toInt ∧ s.2.2.2.toInt ≤ hi'.toInt) ∨
    (∃ kd a v, fX12_figure (Int32.ofNat t) s.1 s.2.1 s.2.2.1 s.2.2.2 TA lo hi' = some (.inr (kd, Int32.ofNat i)) ∧ fX9_takesNumber TM (Int32.ofNat t) ff (Int32.ofNat i) fb lo hi' = some (0, kd, a, Int32.ofNat i, v)) := by
  have ht := h.1
  -- no number stands at i
  have none_here : (∀ e v, lp (fX9_takesNumber_b10 (Int32.ofNat t) (Int32.ofNat i) TM) FU (Int32.ofNat i, 0) = some (Int32.ofNat e, v) → i ≤ e → e ≤ t → ¬ (1 ≤ e - i ∧ e - i ≤ 2) → fX9_takesNumber TM (Int32.ofNat t) ff (Int32.ofNat i) fb lo hi' = some (0, 1, Int32.ofNat e, Int32.ofNat i, v)) := by
    intro e v l1 l2 l3 l4
    unfold fX9_takesNumber
    rw [l1, Option.bind_some]
    dsimp only
    rw [e_sub l2 (by omega), in_same, show fX0_isIn (Int32.ofNat (e - i)).toInt64 1 2 = _ from inl_eq (Int32.ofNat (e - i)) 1 2 (by omega) (by omega), Int32.toInt_ofNat_of_lt (by omega), Option.bind_some, g01, if_neg (by omega)]
    rfl
  rcases hs with ⟨h1, rfl⟩ | ⟨c, h1, h2, h3, h4, rfl⟩ | ⟨c, e, v, h1, h2, h3, h4, h5, h6, h7, rfl⟩
  · right
    obtain ⟨e, v, d1, d2, d3, d4, d5⟩ := digits h hi
    refine ⟨1, _, _, ?_, none_here e v d2 d3 d4 (by omega)⟩
    rfl
  · right
    obtain ⟨e, v, d1, d2, d3, d4, d5⟩ := digits h hi
    have hne : ¬ i < e := fun q => by
      obtain ⟨c', q1, q2, q3⟩ := d5.mpr q
      rw [h3] at q2
      have := (q_eq (a := c) (c := c') (by omega) (by omega)).mp (Option.some.inj q2)
      omega
    refine ⟨1, _, _, ?_, none_here e v d2 d3 d4 (by omega)⟩
    unfold fX12_figure
    dsimp only
    rw [if_neg (tkc_2 c), Option.bind_some]
    rfl
  · by_cases c5 : 2 < e - i
    · right
      refine ⟨1, _, _, ?_, none_here e v h7 (by omega) h2 (by omega)⟩
      unfold fX12_figure
      dsimp only
      rw [if_pos c5, if_neg (show ¬ (5 : Int32) = 2 by decide), Option.bind_some]
      rfl
    · dsimp only
      rw [if_neg c5]
      have hin : fX0_isIn v.toInt64 lo.toInt64 hi'.toInt64 = some (if lo.toInt ≤ v.toInt ∧ v.toInt ≤ hi'.toInt then 1 else 0) := by rw [in_eq, Int32.toInt_toInt64, Int32.toInt_toInt64]
      have hfst : ∀ q : Int32, fX12_figure (Int32.ofNat t) (Int32.ofNat e) 2 (Int32.ofNat i) v TA lo hi' = (fX12_must (Int32.ofNat i) (if lo.toInt ≤ v.toInt ∧ v.toInt ≤ hi'.toInt then 1 else 0) 2).bind fun r8 => match r8 with
          | .inr e10 => some (.inr e10)
          | .inl _ => (fX12_next (Int32.ofNat t) (Int32.ofNat e) TA).bind fun q11 => some (.inl (v, q11.1, q11.2.1, q11.2.2.1, q11.2.2.2)) := fun _ => by
        unfold fX12_figure
        rw [if_pos rfl, Option.bind_some, show fX12_must (Int32.ofNat i) 1 1 = some (.inl ()) from rfl, Option.bind_some]
        dsimp only
        rw [hin, Option.bind_some]
        rfl
      have hmod : fX9_takesNumber TM (Int32.ofNat t) ff (Int32.ofNat i) fb lo hi' = if lo.toInt ≤ v.toInt ∧ v.toInt ≤ hi'.toInt then some (1, ff, Int32.ofNat e, fb, v) else some (0, 2, Int32.ofNat e, Int32.ofNat i, v) := by
        unfold fX9_takesNumber
        rw [h7, Option.bind_some]
        dsimp only
        rw [e_sub (show i ≤ e by omega) (by omega), in_same, show fX0_isIn (Int32.ofNat (e - i)).toInt64 1 2 = _ from inl_eq (Int32.ofNat (e - i)) 1 2 (by omega) (by omega), Int32.toInt_ofNat_of_lt (by omega), Option.bind_some, g01, if_pos (by omega), in_same, hin, Option.bind_some, g01]
        by_cases c6 : lo.toInt ≤ v.toInt ∧ v.toInt ≤ hi'.toInt
        · rw [if_pos c6, if_pos c6]
        · rw [if_neg c6, if_neg c6]; rfl
      rw [hfst 0, hmod]
      by_cases c6 : lo.toInt ≤ v.toInt ∧ v.toInt ≤ hi'.toInt
      · left
        obtain ⟨s', n1, n2⟩ := next_eq h (i := e) h2
        rw [if_pos c6, if_pos c6, show fX12_must (Int32.ofNat i) 1 2 = some (.inl ()) from rfl, Option.bind_some]
        dsimp only
        rw [n1, Option.bind_some]
        exact ⟨e, s', h2, n2, rfl, rfl, c6.1, c6.2⟩
      · right
        rw [if_neg c6, if_neg c6]
        exact ⟨2, _, _, rfl, rfl⟩
end TK
