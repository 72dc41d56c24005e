/-! THE PLAIN LAW 30: the sort at a token -/
set_option maxRecDepth 100000
theorem charAt5 : ∀ k : Fin 5, ∃ x, fJ8_charAt (Int32.ofNat k.val) = some x := by
  have h : ∀ k : Fin 5, (fJ8_charAt (Int32.ofNat k.val)).isSome = true := by decide +kernel
  intro k
  exact Option.isSome_iff_exists.mp (h k)
theorem len5 : fJ8_length = some 5 := by decide +kernel
/-- no letter: no sort -/
theorem sort_no (k v : Int32) (hk : ¬ k = 1) : fX12_sortIn k v = some (-1000000) := by
  have l := lp_cnt (b := fX12_sortIn_b2 k v) (r := Int32.ofNat 5) (n := 5) (FUlt (by omega)) (fun i => Int32.ofNat i) (fun i hi => by
    unfold fX12_sortIn_b2
    rw [len5, Option.bind_some, if_neg (show ¬ (5 : Int32) ≤ Int32.ofNat i from nle (a := 5) (b := i) (by omega) (by omega) hi), if_neg hk, o1]) (by
    unfold fX12_sortIn_b2
    rw [len5, Option.bind_some, if_pos (show (5 : Int32) ≤ Int32.ofNat 5 by decide)])
  unfold fX12_sortIn
  rw [show lp (fX12_sortIn_b2 k v) FU 0 = some (Int32.ofNat 5) from l, Option.bind_some, len5, Option.bind_some, if_pos (show (5 : Int32) ≤ Int32.ofNat 5 by decide)]
theorem kind_digit : ∀ c : Fin 256, 48 ≤ c.val ∧ c.val ≤ 57 → fX9_kindOf (Int32.ofNat c.val) = some 0 := by decide +kernel
theorem kind_range : ∀ c : Fin 256, ∃ k : Fin 6, fX9_kindOf (Int32.ofNat c.val) = some (Int32.ofNat k.val) := by
  have h : ∀ c : Fin 256, ((List.range 6).any fun k => fX9_kindOf (Int32.ofNat c.val) == some (Int32.ofNat k)) = true := by decide +kernel
  intro c
  have := h c
  rw [List.any_eq_true] at this
  obtain ⟨k, h1, h2⟩ := this
  exact ⟨⟨k, List.mem_range.mp h1⟩, beq_iff_eq.mp h2⟩
section SO
variable {t : Nat} {TA TM : Nat → Int32}
/-- the sort at a token of the system is the kind there of the reference -/
theorem sort_eq (h : TP t TA TM) {i : Nat} {s : Int32 × Int32 × Int32 × Int32} (hs : Tk t TA TM i s) :
    (∃ x k : Nat, k < 5 ∧ i < t ∧ s.1 = Int32.ofNat (i + 1) ∧ fX12_sortOf s.2.1 s.2.2.2 = some (Int32.ofNat k) ∧ fX9_here TM (Int32.ofNat t) (Int32.ofNat i) = some (Int32.ofNat x) ∧ fX9_kindOf (Int32.ofNat x) = some (Int32.ofNat (k + 1))) ∨
    (fX12_sortOf s.2.1 s.2.2.2 = some (-1000000) ∧ s.2.2.1 = Int32.ofNat i ∧ ((i = t ∧ s.2.1 = 0) ∨ (i < t ∧ ¬ s.2.1 = 0)) ∧ ∃ x, fX9_here TM (Int32.ofNat t) (Int32.ofNat i) = some x ∧ fX9_kindOf x = some 0) := by
  unfold fX12_sortOf
  rcases hs with ⟨h1, rfl⟩ | ⟨c, h1, h2, h3, h4, rfl⟩ | ⟨c, e, v, h1, h2, h3, h4, h5, h6, h7, rfl⟩
  · right
    refine ⟨?_, rfl, Or.inl ⟨h1, rfl⟩, -1, by rw [h1]; exact here_end h, by decide +kernel⟩
    rw [sort_no 0 _ (by decide)]; rfl
  · obtain ⟨k, hk⟩ := kind_range ⟨c, h2⟩
    have hsr := sorts ⟨c, h2⟩ h4
    dsimp only at hk hsr
    rw [hk, Option.bind_some] at hsr
    by_cases k0 : k.val = 0
    · right
      rw [k0] at hk hsr
      rw [if_pos (show Int32.ofNat 0 = 0 from rfl)] at hsr
      refine ⟨by dsimp only; rw [hsr]; rfl, rfl, Or.inr ⟨h1, ?_⟩, _, h3, hk⟩
      dsimp only
      unfold tkc
      split
      · decide
      · split
        · decide
        · split <;> decide
    · left
      obtain ⟨k', hk'⟩ : ∃ k', k.val = k' + 1 := ⟨k.val - 1, by omega⟩
      have := k.isLt
      rw [hk'] at hk hsr
      rw [if_neg (show ¬ Int32.ofNat (k' + 1) = 0 from one (k' + 1) (c := 0) (by omega) (by omega) (by omega)), ← o1, Int32.add_sub_cancel] at hsr
      exact ⟨c, k', by omega, h1, rfl, by dsimp only; rw [hsr]; rfl, h3, hk⟩
  · right
    refine ⟨?_, rfl, Or.inr ⟨by omega, ?_⟩, _, h4, kind_digit ⟨c, h3⟩ ⟨h5, h6⟩⟩
    · dsimp only
      rw [sort_no _ _ (by split <;> decide)]; rfl
    · dsimp only
      split <;> decide
end SO
