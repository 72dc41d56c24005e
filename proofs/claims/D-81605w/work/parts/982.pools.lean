/-! THE LAW LEVEL 2: places of the pools -/
set_option maxRecDepth 100000
section PO
variable {d : Nat → ClassId} {ria ria' : Nat → Nat} {RW RW' PA PA' IA : Nat → Option Nat} {rs rs' : Nat → Option Rw} {qa xa : Nat → Nat → Nat} {PH : Nat → HV} {IH : Nat → Option HV} {g i : Nat}
theorem rC_at {x : Rw} {a : Nat} (hx : rs i = some x) (hw : RW i = some a) : rC d ria RW rs i = [(a, .inr (10, [.int x.2.1, .ref (ria i)])), (ria i, .inl (d 0, x.1, .inl x.2.2))] := by
  unfold rC
  rw [hx, hw]
theorem rC_no (hx : rs i = none) : rC d ria RW rs i = [] := by
  unfold rC
  rw [hx]
theorem rC_congr {j : Nat} (h1 : rs' j = rs j) (h2 : RW' j = RW j) (h3 : ria' j = ria j) : rC d ria' RW' rs' j = rC d ria RW rs j := by
  unfold rC
  rw [h1, h2, h3]
theorem row_out {x : Rw} {a : Nat} (hi : i < 8) (hx : rs i = some x) (hw : RW i = some a) : (pool (rC d ria RW rs) 8).Perm ([(a, .inr (10, [.int x.2.1, .ref (ria i)])), (ria i, .inl (d 0, x.1, .inl x.2.2))] ++ pool (wo (rC d ria RW rs) i) 8) := by
  have h := pool_at (f := rC d ria RW rs) hi
  rwa [rC_at hx hw] at h
theorem row_in {x : Rw} {a : Nat} (hi : i < 8) (hx : rs' i = some x) (hw : RW' i = some a) (hc : ∀ j, j ≠ i → rs' j = rs j ∧ RW' j = RW j ∧ ria' j = ria j) : (pool (rC d ria' RW' rs') 8).Perm ([(a, .inr (10, [.int x.2.1, .ref (ria' i)])), (ria' i, .inl (d 0, x.1, .inl x.2.2))] ++ pool (wo (rC d ria RW rs) i) 8) := by
  have h := row_out (d := d) (ria := ria') hi hx hw
  rwa [wo_congr (fun j hj => rC_congr (hc j hj).1 (hc j hj).2.1 (hc j hj).2.2)] at h
theorem row_no (hi : i < 8) (hx : rs' i = none) (hc : ∀ j, j ≠ i → rs' j = rs j ∧ RW' j = RW j ∧ ria' j = ria j) : (pool (rC d ria' RW' rs') 8).Perm (pool (wo (rC d ria RW rs) i) 8) := by
  have h := pool_at (f := rC d ria' RW' rs') hi
  rwa [rC_no hx, wo_congr (fun j hj => rC_congr (hc j hj).1 (hc j hj).2.1 (hc j hj).2.2), List.nil_append] at h
theorem row_case (hRW : ∀ i, i < 8 → (rs i = none ∧ RW i = none) ∨ ∃ x a, rs i = some x ∧ RW i = some a) (p : Int32) : ((0 ≤ p.toInt ∧ p.toInt ≤ 7) → rs p.toNatClampNeg = none ∧ RW p.toNatClampNeg = none) ∨ ∃ i x a, i < 8 ∧ p = Int32.ofNat i ∧ rs i = some x ∧ RW i = some a := by
  by_cases h : 0 ≤ p.toInt ∧ p.toInt ≤ 7
  · obtain ⟨i, rfl, hi⟩ := row_ix_of h
    have hc : (Int32.ofNat i).toNatClampNeg = i := toClamp (by omega)
    rcases hRW i hi with h1 | ⟨x, a, h1, h2⟩
    · exact Or.inl (fun _ => by rw [hc]; exact h1)
    · exact Or.inr ⟨i, x, a, hi, rfl, h1, h2⟩
  · exact Or.inl (fun h2 => absurd h2 h)
theorem rw_new (hRW : ∀ i, i < 8 → (rs i = none ∧ RW i = none) ∨ ∃ x a, rs i = some x ∧ RW i = some a) (k : Nat) (y : Rw) (b : Nat) : ∀ i, i < 8 → (nr rs k (some y) i = none ∧ va_up RW k (some b) i = none) ∨ ∃ x a, nr rs k (some y) i = some x ∧ va_up RW k (some b) i = some a := by
  intro i hi
  by_cases e : i = k
  · subst e; exact Or.inr ⟨y, b, nr_same, vu_same⟩
  · rw [nr_ne e, vu_ne e]; exact hRW i hi
theorem rw_some (hRW : ∀ i, i < 8 → (rs i = none ∧ RW i = none) ∨ ∃ x a, rs i = some x ∧ RW i = some a) {k b : Nat} (hb : RW k = some b) (y : Rw) : ∀ i, i < 8 → (nr rs k (some y) i = none ∧ RW i = none) ∨ ∃ x a, nr rs k (some y) i = some x ∧ RW i = some a := by
  intro i hi
  by_cases e : i = k
  · subst e; exact Or.inr ⟨y, b, nr_same, hb⟩
  · rw [nr_ne e]; exact hRW i hi
theorem rw_no (hRW : ∀ i, i < 8 → (rs i = none ∧ RW i = none) ∨ ∃ x a, rs i = some x ∧ RW i = some a) (k : Nat) : ∀ i, i < 8 → (nr rs k none i = none ∧ va_up RW k none i = none) ∨ ∃ x a, nr rs k none i = some x ∧ va_up RW k none i = some a := by
  intro i hi
  by_cases e : i = k
  · subst e; exact Or.inl ⟨nr_same, vu_same⟩
  · rw [nr_ne e, vu_ne e]; exact hRW i hi
-- past houses
theorem pC_at {a : Nat} (h : PA i = some a) : pC d PA qa PH i = hC d (qa i) (PH i) := by
  unfold pC
  rw [h]
theorem pC_no (h : PA i = none) : pC d PA qa PH i = [] := by
  unfold pC
  rw [h]
theorem past_out {a : Nat} (hi : i < 24) (h : PA i = some a) : (pool (pC d PA qa PH) 24).Perm (hC d (qa i) (PH i) ++ pool (wo (pC d PA qa PH) i) 24) := by
  have h2 := pool_at (f := pC d PA qa PH) hi
  rwa [pC_at h] at h2
theorem past_new {u : Nat → Nat} {q : HV} (hg : g < 24) (h : PA g = none) : (pool (pC d (va_up PA g (some (u 0))) (fun j => if j = g then u else qa j) (pk PH g q)) 24).Perm (hC d u q ++ pool (pC d PA qa PH) 24) := by
  have h1 := pool_at (f := pC d (va_up PA g (some (u 0))) (fun j => if j = g then u else qa j) (pk PH g q)) hg
  have h2 := pool_at (f := pC d PA qa PH) hg
  rw [pC_no h, List.nil_append] at h2
  have e1 : pC d (va_up PA g (some (u 0))) (fun j => if j = g then u else qa j) (pk PH g q) g = hC d u q := by
    rw [pC_at vu_same, if_pos rfl]
    unfold pk
    rw [if_pos hg, if_pos rfl]
  have e2 : wo (pC d (va_up PA g (some (u 0))) (fun j => if j = g then u else qa j) (pk PH g q)) g = wo (pC d PA qa PH) g := wo_congr (fun j hj => by
    unfold pC pk
    rw [vu_ne hj, if_pos hg, if_neg hj]
    dsimp only
    rw [if_neg hj])
  rw [e1, e2] at h1
  exact h1.trans (List.Perm.append_left _ h2.symm)
def pastH (PA : Nat → Option Nat) (i0 : Nat) : Nat → Bool := fun e => (List.range 24).any (fun j => j != i0 && PA j == some e)
theorem pastH_hhs {wi : va_W} (hPA : ∀ j a, j < 24 → PA j = some a → a = qa j 0) : ∀ e, pastH PA i e = true → ∃ fs, (e, .inr (2, fs)) ∈ wi ++ pool (wo (pC d PA qa PH) i) 24 := by
  intro e h
  obtain ⟨j, hj, h1⟩ := List.any_eq_true.mp h
  have hj := List.mem_range.mp hj
  obtain ⟨h2, h3⟩ := Bool.and_eq_true_iff.mp h1
  have h2 : j ≠ i := by simpa using h2
  have h3 : PA j = some e := by simpa using h3
  have h4 := hPA j e hj h3
  have hm : oV (qa j) (PH j) ∈ pool (wo (pC d PA qa PH) i) 24 := pool_mem hj (by
    unfold wo
    rw [if_neg h2, pC_at h3]
    exact List.mem_cons_self)
  rw [h4]
  exact ⟨_, List.mem_append_right _ hm⟩
theorem keep_case (hg : g ≤ 24) (hPA : ∀ j a, j < 24 → PA j = some a → a = qa j 0) (hPA2 : ∀ j, j < g → ∃ a, PA j = some a) : (g < 24 ∧ PA g = none) ∨ ∃ i, i < 24 ∧ (g < 24 → i = g) ∧ (g = 24 → i = 0) ∧ PA i = some (qa i 0) ∧ kOK (qa i) (pastH PA i) g PA := by
  by_cases h : g < 24
  · cases hp : PA g with
    | none => exact Or.inl ⟨h, rfl⟩
    | some a =>
      have e := hPA g a h hp
      subst e
      exact Or.inr ⟨g, h, fun _ => rfl, fun h2 => by omega, hp, Or.inl ⟨h, hp⟩⟩
  · have hg' : g = 24 := by omega
    subst hg'
    obtain ⟨a, ha⟩ := hPA2 0 (by omega)
    have e := hPA 0 a (by omega) ha
    subst e
    refine Or.inr ⟨0, by omega, fun h2 => absurd h2 h, fun _ => rfl, ha, Or.inr ⟨rfl, ha, fun j h1 h2 => ?_⟩⟩
    obtain ⟨e, he⟩ := hPA2 j h2
    refine ⟨e, he, List.any_eq_true.mpr ⟨j, List.mem_range.mpr h2, ?_⟩⟩
    rw [he]
    have : j ≠ 0 := by omega
    simp [this]
theorem past_in {q : HV} (hg : g ≤ 24) (hi : i < 24) (h1 : g < 24 → i = g) (h2 : g = 24 → i = 0) (hp : PA i = some (qa i 0)) (hr : pr g PA PA') (hPA : ∀ j a, j < 24 → PA j = some a → a = qa j 0) (hPA2 : ∀ j, j < g → ∃ a, PA j = some a) :
    ∃ qa', (pool (pC d PA' qa' (pk PH g q)) 24).Perm (hC d (qa i) q ++ pool (wo (pC d PA qa PH) i) 24) ∧ (∀ j a, j < 24 → PA' j = some a → a = qa' j 0) ∧ ∀ j, j < gk g → ∃ a, PA' j = some a := by
  by_cases h : g < 24
  · have e := h1 h
    subst e
    have e := hr.1 h
    subst e
    refine ⟨qa, ?_, hPA, fun j hj => ?_⟩
    · have h3 := past_out (d := d) (qa := qa) (PH := pk PH i q) hi hp
      have e1 : pk PH i q i = q := by unfold pk; rw [if_pos h, if_pos rfl]
      have e2 : wo (pC d PA' qa (pk PH i q)) i = wo (pC d PA' qa PH) i := wo_congr (fun j hj => by
        unfold pC pk
        rw [if_pos h, if_neg hj])
      rwa [e1, e2] at h3
    · unfold gk at hj
      rw [if_pos h] at hj
      by_cases e : j = i
      · subst e; exact ⟨_, hp⟩
      · exact hPA2 j (by omega)
  · have hg' : g = 24 := by omega
    subst hg'
    have e := h2 rfl
    subst e
    obtain ⟨r1, r2⟩ := hr.2 rfl
    refine ⟨fun j => if j = 23 then qa 0 else qa (j + 1), ?_, fun j a hj ha => ?_, fun j hj => ?_⟩
    · have h3 : (pool (pC d PA' (fun j => if j = 23 then qa 0 else qa (j + 1)) (pk PH 24 q)) (23 + 1)).Perm (pool (fun j => if j = 0 then hC d (qa 0) q else pC d PA qa PH j) (23 + 1)) := by
        refine pool_rot (fun j hj => ?_) ?_
        · show pC d PA' _ _ j = if j + 1 = 0 then _ else _
          rw [if_neg (by omega)]
          unfold pC pk
          rw [r1 j hj, if_neg (by omega), if_neg (by omega)]
          dsimp only
          rw [if_neg (by omega)]
        · show pC d PA' _ _ 23 = if (0 : Nat) = 0 then _ else _
          rw [if_pos rfl, pC_at (r2.trans hp), if_pos rfl]
          unfold pk
          rw [if_neg (by omega), if_pos rfl]
      have h4 := pool_at (f := fun j => if j = 0 then hC d (qa 0) q else pC d PA qa PH j) (i := 0) (n := 24) (by omega)
      have e2 : wo (fun j => if j = 0 then hC d (qa 0) q else pC d PA qa PH j) 0 = wo (pC d PA qa PH) 0 := wo_congr (fun j hj => if_neg hj)
      rw [e2] at h4
      exact h3.trans h4
    · by_cases e : j = 23
      · subst e
        rw [r2, hp] at ha
        show a = (if (23 : Nat) = 23 then qa 0 else _) 0
        rw [if_pos rfl]
        exact (Option.some.inj ha).symm
      · rw [r1 j (by omega)] at ha
        show a = (if j = 23 then qa 0 else qa (j + 1)) 0
        rw [if_neg e]
        exact hPA _ a (by omega) ha
    · unfold gk at hj
      rw [if_neg (by omega)] at hj
      by_cases e : j = 23
      · subst e; exact ⟨_, r2.trans hp⟩
      · rw [r1 j (by omega)]; exact hPA2 _ (by omega)
-- images
theorem iC_at {q : HV} (h : IH i = some q) : iC d IH xa i = hC d (xa i) q := by
  unfold iC
  rw [h]
theorem iC_no (h : IH i = none) : iC d IH xa i = [] := by
  unfold iC
  rw [h]
theorem img_out {q : HV} (hi : i < 2) (h : IH i = some q) : (pool (iC d IH xa) 2).Perm (hC d (xa i) q ++ pool (wo (iC d IH xa) i) 2) := by
  have h2 := pool_at (f := iC d IH xa) hi
  rwa [iC_at h] at h2
theorem ni_same {x : Option HV} : ni IH i x i = x := if_pos rfl
theorem ni_ne {j : Nat} {x : Option HV} (h : j ≠ i) : ni IH i x j = IH j := if_neg h
theorem img_in {q : HV} (hi : i < 2) : (pool (iC d (ni IH i (some q)) xa) 2).Perm (hC d (xa i) q ++ pool (wo (iC d IH xa) i) 2) := by
  have h := img_out (d := d) (xa := xa) hi (ni_same (IH := IH) (x := some q))
  rwa [wo_congr (g := iC d IH xa) (fun j hj => by unfold iC; rw [ni_ne hj])] at h
theorem img_new {u : Nat → Nat} {q : HV} (hi : i < 2) (h0 : IH i = none) : (pool (iC d (ni IH i (some q)) (fun j => if j = i then u else xa j)) 2).Perm (hC d u q ++ pool (iC d IH xa) 2) := by
  have h := img_out (d := d) (xa := fun j => if j = i then u else xa j) hi (ni_same (IH := IH) (x := some q))
  have h2 := pool_at (f := iC d IH xa) hi
  rw [iC_no h0, List.nil_append] at h2
  rw [wo_congr (g := iC d IH xa) (fun j hj => by unfold iC; rw [ni_ne hj]; dsimp only; rw [if_neg hj])] at h
  rw [show (if i = i then u else xa i) = u from if_pos rfl] at h
  exact h.trans (List.Perm.append_left _ h2.symm)
theorem img_case (hIA : ∀ i, i < 2 → (IH i = none ∧ IA i = none) ∨ ∃ q, IH i = some q ∧ IA i = some (xa i 0)) (p : Int32) : ((0 ≤ p.toInt ∧ p.toInt ≤ 1) → IH p.toNatClampNeg = none ∧ IA p.toNatClampNeg = none) ∨ ∃ i q, i < 2 ∧ p = Int32.ofNat i ∧ IH i = some q ∧ IA i = some (xa i 0) := by
  by_cases h : 0 ≤ p.toInt ∧ p.toInt ≤ 1
  · obtain ⟨i, rfl, h1, h2⟩ := i32_of h.1
    have hi : i < 2 := by omega
    have hc : (Int32.ofNat i).toNatClampNeg = i := toClamp (by omega)
    rcases hIA i hi with h1 | ⟨q, h1, h2⟩
    · exact Or.inl (fun _ => by rw [hc]; exact h1)
    · exact Or.inr ⟨i, q, hi, rfl, h1, h2⟩
  · exact Or.inl (fun h2 => absurd h2 h)
theorem im_new (hIA : ∀ i, i < 2 → (IH i = none ∧ IA i = none) ∨ ∃ q, IH i = some q ∧ IA i = some (xa i 0)) {k : Nat} (u : Nat → Nat) (v : HV) : ∀ i, i < 2 → (ni IH k (some v) i = none ∧ va_up IA k (some (u 0)) i = none) ∨ ∃ q, ni IH k (some v) i = some q ∧ va_up IA k (some (u 0)) i = some ((fun j => if j = k then u else xa j) i 0) := by
  intro i hi
  by_cases e : i = k
  · subst e
    refine Or.inr ⟨v, ni_same, ?_⟩
    show _ = some ((if i = i then u else xa i) 0)
    rw [if_pos rfl, vu_same]
  · show _ ∨ ∃ q, _ ∧ _ = some ((if i = k then u else xa i) 0)
    rw [ni_ne e, vu_ne e, if_neg e]
    exact hIA i hi
theorem im_some (hIA : ∀ i, i < 2 → (IH i = none ∧ IA i = none) ∨ ∃ q, IH i = some q ∧ IA i = some (xa i 0)) {k : Nat} (hA : IA k = some (xa k 0)) (v : HV) : ∀ i, i < 2 → (ni IH k (some v) i = none ∧ IA i = none) ∨ ∃ q, ni IH k (some v) i = some q ∧ IA i = some (xa i 0) := by
  intro i hi
  by_cases e : i = k
  · subst e; exact Or.inr ⟨v, ni_same, hA⟩
  · rw [ni_ne e]; exact hIA i hi
end PO
