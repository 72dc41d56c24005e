/-! THE PLAIN LAW 28: signs, letters, sorts -/
set_option maxRecDepth 100000
section SG
variable {t : Nat} {TA TM : Nat → Int32}
theorem here_end (h : TP t TA TM) : fX9_here TM (Int32.ofNat t) (Int32.ofNat t) = some (-1) := (chr_end h (Nat.le_refl t) (by have := h.1; omega)).2
theorem takes_no {i : Nat} {x ch ff fb : Int32} (hx : fX9_here TM (Int32.ofNat t) (Int32.ofNat i) = some x) (hne : ¬ x = ch) : fX9_takes TM (Int32.ofNat t) ff (Int32.ofNat i) fb ch = some (0, 1, Int32.ofNat i, Int32.ofNat i) := by
  unfold fX9_takes
  rw [hx, Option.bind_some, if_neg hne]
  rfl
theorem takes_yes {i : Nat} {x ch ff fb : Int32} (hx : fX9_here TM (Int32.ofNat t) (Int32.ofNat i) = some x) (he : x = ch) : fX9_takes TM (Int32.ofNat t) ff (Int32.ofNat i) fb ch = some (1, ff, Int32.ofNat (i + 1), fb) := by
  unfold fX9_takes
  rw [hx, Option.bind_some, if_pos he, o1]
theorem sign_eq (h : TP t TA TM) {i : Nat} (hi : i ≤ t) {s : Int32 × Int32 × Int32 × Int32} (hs : Tk t TA TM i s) {w ch : Int32} (hw : (w = 3 ∧ ch = 44) ∨ (w = 4 ∧ ch = 59)) (ff fb : Int32) :
    (∃ s', i + 1 ≤ t ∧ Tk t TA TM (i + 1) s' ∧ fX12_sign (Int32.ofNat t) s.1 s.2.1 s.2.2.1 TA w = some (.inl (s'.1, s'.2.1, s'.2.2.1, s'.2.2.2)) ∧ fX9_takes TM (Int32.ofNat t) ff (Int32.ofNat i) fb ch = some (1, ff, Int32.ofNat (i + 1), fb)) ∨
    (fX12_sign (Int32.ofNat t) s.1 s.2.1 s.2.2.1 TA w = some (.inr (1, Int32.ofNat i)) ∧ fX9_takes TM (Int32.ofNat t) ff (Int32.ofNat i) fb ch = some (0, 1, Int32.ofNat i, Int32.ofNat i)) := by
  have ht := h.1
  have bad : ∀ (a k : Int32), ¬ k = w → fX12_sign (Int32.ofNat t) a k (Int32.ofNat i) TA w = some (.inr (1, Int32.ofNat i)) := fun a k hk => by
    unfold fX12_sign
    rw [if_neg hk]
    rfl
  rcases hs with ⟨h1, rfl⟩ | ⟨c, h1, h2, h3, h4, rfl⟩ | ⟨c, e, v, h1, h2, h3, h4, h5, h6, h7, rfl⟩
  · right
    refine ⟨bad _ _ (show ¬ (0 : Int32) = w by rcases hw with ⟨rfl, -⟩ | ⟨rfl, -⟩ <;> decide), takes_no (x := -1) (by rw [h1]; exact here_end h) ?_⟩
    rcases hw with ⟨-, rfl⟩ | ⟨-, rfl⟩ <;> decide
  · have g44 : (Int32.ofNat c = 44) = (c = 44) := q_eq (c := 44) (by omega) (by omega)
    have g59 : (Int32.ofNat c = 59) = (c = 59) := q_eq (c := 59) (by omega) (by omega)
    have hiff : (tkc c = w) = (Int32.ofNat c = ch) := by
      rcases hw with ⟨rfl, rfl⟩ | ⟨rfl, rfl⟩
      · rw [tkc_3, g44]
      · rw [tkc_4, g59]
    by_cases q : tkc c = w
    · left
      obtain ⟨s', n1, n2⟩ := next_eq h (i := i + 1) h1
      refine ⟨s', h1, n2, ?_, takes_yes h3 (Eq.mp hiff q)⟩
      unfold fX12_sign
      dsimp only
      rw [if_pos q, Option.bind_some, show fX12_must (Int32.ofNat i) 1 1 = some (.inl ()) from rfl, Option.bind_some]
      dsimp only
      rw [n1, Option.bind_some]
    · right
      exact ⟨bad _ _ q, takes_no h3 (fun z => q (Eq.mpr hiff z))⟩
  · right
    refine ⟨bad _ _ ?_, takes_no h4 (fun z => ?_)⟩
    · dsimp only
      rcases hw with ⟨rfl, -⟩ | ⟨rfl, -⟩ <;> split <;> decide
    · rcases hw with ⟨-, rfl⟩ | ⟨-, rfl⟩
      · have := (q_eq (a := c) (c := 44) (by omega) (by omega)).mp z; omega
      · have := (q_eq (a := c) (c := 59) (by omega) (by omega)).mp z; omega
theorem more_eq (h : TP t TA TM) {i : Nat} (hi : i ≤ t) {s : Int32 × Int32 × Int32 × Int32} (hs : Tk t TA TM i s) (lo hi' ff fb : Int32) :
    (∃ e s' va, e ≤ t ∧ Tk t TA TM e s' ∧ fX12_more (Int32.ofNat t) s.1 s.2.1 s.2.2.1 TA lo hi' = some (.inl (va, s'.1, s'.2.1, s'.2.2.1, s'.2.2.2)) ∧ fX9_takes TM (Int32.ofNat t) ff (Int32.ofNat i) fb 44 = some (1, ff, Int32.ofNat (i + 1), fb) ∧ fX9_takesNumber TM (Int32.ofNat t) ff (Int32.ofNat (i + 1)) fb lo hi' = some (1, ff, Int32.ofNat e, fb, va) ∧ lo.toInt ≤ va.toInt ∧ va.toInt ≤ hi'.toInt) ∨
    (fX12_more (Int32.ofNat t) s.1 s.2.1 s.2.2.1 TA lo hi' = some (.inr (1, Int32.ofNat i)) ∧ fX9_takes TM (Int32.ofNat t) ff (Int32.ofNat i) fb 44 = some (0, 1, Int32.ofNat i, Int32.ofNat i)) ∨
    (∃ kd a v, fX12_more (Int32.ofNat t) s.1 s.2.1 s.2.2.1 TA lo hi' = some (.inr (kd, Int32.ofNat (i + 1))) ∧ fX9_takes TM (Int32.ofNat t) ff (Int32.ofNat i) fb 44 = some (1, ff, Int32.ofNat (i + 1), fb) ∧ fX9_takesNumber TM (Int32.ofNat t) ff (Int32.ofNat (i + 1)) fb lo hi' = some (0, kd, a, Int32.ofNat (i + 1), v)) := by
  unfold fX12_more
  rcases sign_eq h hi hs (w := 3) (ch := 44) (Or.inl ⟨rfl, rfl⟩) ff fb with ⟨s1, a1, a2, a3, a4⟩ | ⟨a3, a4⟩
  · rw [a3, Option.bind_some]
    dsimp only
    rcases fig_eq h a1 a2 lo hi' ff fb with ⟨e, s', b1, b2, b3, b4, b5, b6⟩ | ⟨kd, a, v, b3, b4⟩
    · left
      rw [b3, Option.bind_some]
      exact ⟨e, s', _, b1, b2, rfl, a4, b4, b5, b6⟩
    · right; right
      rw [b3, Option.bind_some]
      exact ⟨kd, a, v, rfl, a4, b4⟩
  · right; left
    rw [a3, Option.bind_some]
    exact ⟨rfl, a4⟩
/-- the letter d -/
theorem d_eq (h : TP t TA TM) {i : Nat} {s : Int32 × Int32 × Int32 × Int32} (hs : Tk t TA TM i s) (ff fb : Int32) :
    (i + 1 ≤ t ∧ s.1 = Int32.ofNat (i + 1) ∧ fX12_isLetter s.2.1 s.2.2.2 100 = some 1 ∧ fX9_takes TM (Int32.ofNat t) ff (Int32.ofNat i) fb 100 = some (1, ff, Int32.ofNat (i + 1), fb)) ∨
    (fX12_isLetter s.2.1 s.2.2.2 100 = some 0 ∧ s.2.2.1 = Int32.ofNat i ∧ fX9_takes TM (Int32.ofNat t) ff (Int32.ofNat i) fb 100 = some (0, 1, Int32.ofNat i, Int32.ofNat i)) := by
  rcases hs with ⟨h1, rfl⟩ | ⟨c, h1, h2, h3, h4, rfl⟩ | ⟨c, e, v, h1, h2, h3, h4, h5, h6, h7, rfl⟩
  · right
    exact ⟨rfl, rfl, takes_no (x := -1) (by rw [h1]; exact here_end h) (by decide)⟩
  · have g : (Int32.ofNat c = 100) = (c = 100) := q_eq (c := 100) (by omega) (by omega)
    by_cases q : c = 100
    · left
      refine ⟨h1, rfl, ?_, takes_yes h3 (Eq.mpr g q)⟩
      subst q
      rfl
    · right
      refine ⟨?_, rfl, takes_no h3 (fun z => q (Eq.mp g z))⟩
      unfold fX12_isLetter
      dsimp only
      rw [if_neg (fun z => q (Eq.mp g z))]
      split <;> rfl
  · right
    refine ⟨?_, rfl, takes_no h4 (fun z => by have := (q_eq (a := c) (c := 100) (by omega) (by omega)).mp z; omega)⟩
    unfold fX12_isLetter
    dsimp only
    rw [if_neg (by split <;> decide)]
theorem sorts : ∀ c : Fin 256, ¬ (48 ≤ c.val ∧ c.val ≤ 57) → (fX12_sortIn (tkc c.val) (Int32.ofNat c.val)) = (fX9_kindOf (Int32.ofNat c.val)).bind (fun k => if k = 0 then some (-1000000) else some (k - 1)) := by decide +kernel
end SG
