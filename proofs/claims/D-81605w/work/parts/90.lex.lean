/-! THE PLAIN LAW 26: the reader's tokens against the reference's -/
set_option maxRecDepth 100000
section LX
variable {t : Nat} {TA TM : Nat → Int32}
theorem chr_eq (h : TP t TA TM) {j : Nat} (hj : j < t) : ∃ c : Nat, c < 256 ∧ fX12_look (Int32.ofNat t) (Int32.ofNat j) TA = some (Int32.ofNat c) ∧ fX9_here TM (Int32.ofNat t) (Int32.ofNat j) = some (Int32.ofNat c) := by
  obtain ⟨h1, h2⟩ := h
  obtain ⟨c, c1, c2, c3⟩ := h2 j hj
  refine ⟨c, c1, ?_, ?_⟩
  · unfold fX12_look
    rw [if_neg (nle (a := t) (b := j) (by omega) (by omega) hj), rdn (k := j) (by omega) (by omega), Option.bind_some, c2]
  · unfold fX9_here
    rw [if_neg (nle (a := t) (b := j) (by omega) (by omega) hj), rdn (k := j) (by omega) (by omega), Option.bind_some, c3]
theorem chr_end (h : TP t TA TM) {j : Nat} (hj : t ≤ j) (hj2 : j ≤ 1000) : fX12_look (Int32.ofNat t) (Int32.ofNat j) TA = some (-1000000) ∧ fX9_here TM (Int32.ofNat t) (Int32.ofNat j) = some (-1) := by
  obtain ⟨h1, h2⟩ := h
  constructor
  · unfold fX12_look
    rw [if_pos (yle (a := t) (b := j) (by omega) (by omega) hj)]
  · unfold fX9_here
    rw [if_pos (yle (a := t) (b := j) (by omega) (by omega) hj)]
theorem dg_eq {c : Nat} (hc : c < 256) : fX0_isIn (Int32.ofNat c).toInt64 48 57 = some (if 48 ≤ c ∧ c ≤ 57 then 1 else 0) := by
  rw [show fX0_isIn (Int32.ofNat c).toInt64 48 57 = _ from inl_eq (Int32.ofNat c) 48 57 (by omega) (by omega), Int32.toInt_ofNat_of_lt (by omega)]
  congr 1
  by_cases h : 48 ≤ c ∧ c ≤ 57
  · rw [if_pos h, if_pos (by omega)]
  · rw [if_neg h, if_neg (by omega)]
theorem al_eq {c : Nat} (hc : c < 256) : fX0_isIn (Int32.ofNat c).toInt64 97 122 = some (if 97 ≤ c ∧ c ≤ 122 then 1 else 0) := by
  rw [show fX0_isIn (Int32.ofNat c).toInt64 97 122 = _ from inl_eq (Int32.ofNat c) 97 122 (by omega) (by omega), Int32.toInt_ofNat_of_lt (by omega)]
  congr 1
  by_cases h : 97 ≤ c ∧ c ≤ 122
  · rw [if_pos h, if_pos (by omega)]
  · rw [if_neg h, if_neg (by omega)]
/-- a digit stands at i -/
def Dg (t : Nat) (TM : Nat → Int32) (i : Nat) : Prop := i < t ∧ ∃ c : Nat, c < 256 ∧ TM i = Int32.ofNat c ∧ 48 ≤ c ∧ c ≤ 57
theorem digits (h : TP t TA TM) {i : Nat} (hi : i ≤ t) : ∃ e v, lp (fX12_next_b51 (Int32.ofNat t) (Int32.ofNat i) TA) FU (Int32.ofNat i, 0) = some (Int32.ofNat e, v) ∧ lp (fX9_takesNumber_b10 (Int32.ofNat t) (Int32.ofNat i) TM) FU (Int32.ofNat i, 0) = some (Int32.ofNat e, v) ∧ i ≤ e ∧ e ≤ t ∧ ((∃ c, c < 256 ∧ fX9_here TM (Int32.ofNat t) (Int32.ofNat i) = some (Int32.ofNat c) ∧ 48 ≤ c ∧ c ≤ 57) ↔ i < e) := by
  have ht := h.1
  obtain ⟨r, r', l1, l2, l3, e, l4, l5, l6, l7⟩ := lp_sim (b := fX12_next_b51 (Int32.ofNat t) (Int32.ofNat i) TA) (b' := fX9_takesNumber_b10 (Int32.ofNat t) (Int32.ofNat i) TM) (s := (Int32.ofNat i, 0)) (s' := (Int32.ofNat i, 0))
    (fun (k : Nat) (s s' : Int32 × Int32) => s = s' ∧ s.1 = Int32.ofNat (i + k) ∧ i + k ≤ t ∧ (0 < k → ∃ c, c < 256 ∧ fX9_here TM (Int32.ofNat t) (Int32.ofNat i) = some (Int32.ofNat c) ∧ 48 ≤ c ∧ c ≤ 57))
    (fun (r r' : Int32 × Int32) => r = r' ∧ ∃ e, r.1 = Int32.ofNat e ∧ i ≤ e ∧ e ≤ t ∧ ((∃ c, c < 256 ∧ fX9_here TM (Int32.ofNat t) (Int32.ofNat i) = some (Int32.ofNat c) ∧ 48 ≤ c ∧ c ≤ 57) ↔ i < e)) (t - i) (FUlt (by omega)) (fun k hk s s' hI => by
      obtain ⟨i1, i2, i3, i4⟩ := hI
      subst i1
      obtain ⟨a, v⟩ := s
      dsimp only at i2
      subst i2
      unfold fX12_next_b51 fX9_takesNumber_b10
      dsimp only
      by_cases hlt : i + k < t
      · obtain ⟨c, c1, c2, c3⟩ := chr_eq h hlt
        rw [c2, c3, Option.bind_some, Option.bind_some, Option.bind_some, in_same, dg_eq c1, Option.bind_some, g01]
        by_cases c4 : 48 ≤ c ∧ c ≤ 57
        · left
          rw [if_pos c4, o1]
          refine ⟨by omega, ?_⟩
          have hd : 0 < k + 1 → ∃ c, c < 256 ∧ fX9_here TM (Int32.ofNat t) (Int32.ofNat i) = some (Int32.ofNat c) ∧ 48 ≤ c ∧ c ≤ 57 := fun _ => by
            by_cases k0 : k = 0
            · subst k0; exact ⟨c, c1, c3, c4⟩
            · exact i4 (by omega)
          by_cases c5 : 2 ≤ Int32.ofNat (i + k) - Int32.ofNat i
          · rw [if_pos c5, Option.bind_some]
            exact ⟨_, _, rfl, rfl, rfl, rfl, by omega, hd⟩
          · rw [if_neg c5, Option.bind_some]
            exact ⟨_, _, rfl, rfl, rfl, rfl, by omega, hd⟩
        · right
          rw [if_neg c4]
          refine ⟨_, _, rfl, rfl, rfl, i + k, rfl, by omega, i3, fun hq => ?_, fun hq => i4 (by omega)⟩
          by_cases k0 : k = 0
          · subst k0
            obtain ⟨c', d1, d2, d3⟩ := hq
            rw [show i = i + 0 from rfl, c3] at d2
            have := (q_eq (a := c) (c := c') (by omega) (by omega)).mp (Option.some.inj d2)
            omega
          · omega
      · right
        have he : i + k = t := by omega
        obtain ⟨e1, e2⟩ := chr_end h (j := i + k) (by omega) (by omega)
        rw [e1, e2, Option.bind_some, Option.bind_some, Option.bind_some, in_same, show fX0_isIn (-1000000 : Int32).toInt64 48 57 = some 0 by decide +kernel, show fX0_isIn (-1 : Int32).toInt64 48 57 = some 0 by decide +kernel, Option.bind_some, Option.bind_some, if_pos rfl, if_pos rfl]
        refine ⟨_, _, rfl, rfl, rfl, i + k, rfl, by omega, i3, fun hq => ?_, fun hq => i4 (by omega)⟩
        by_cases k0 : k = 0
        · subst k0
          obtain ⟨c', d1, d2, d3⟩ := hq
          rw [show i = i + 0 from rfl, e2] at d2
          exfalso
          have := congrArg Int32.toInt (Option.some.inj d2)
          rw [Int32.toInt_ofNat_of_lt (by omega)] at this
          have : (-1 : Int) = c' := this
          omega
        · omega) ⟨rfl, rfl, hi, fun h => absurd h (Nat.lt_irrefl 0)⟩
  obtain ⟨a, b⟩ := r
  subst l3
  dsimp only at l4
  subst l4
  exact ⟨e, b, l1, l2, l5, l6, l7⟩
end LX
