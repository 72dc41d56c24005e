/-! THE PLAIN LAW 22: the past -/
set_option maxRecDepth 100000
def KV (ln : Nat → Option Int32) (lf : Nat → Nat → Option Nat) (dk : Nat → Option Nat) (v : HV) (w : Nat → Int32) (r : Nat) (B : AH) : Prop := SR ln lf dk v B ∧ MR w r B ∧ OK B ∧ 1 ≤ zN B ∧ zM B ≤ 999 ∧ Htf v = (-1000000)
def PVs (ln : Nat → Option Int32) (lf : Nat → Nat → Option Nat) (dk : Nat → Option Nat) (PH : Nat → HV) (w : Nat → Int32) (g : Nat) : Prop := g ≤ 24 ∧ ∀ j, j < g → ∃ B, KV ln lf dk (PH j) w (215 + 43 * j) B
def pk (PH : Nat → HV) (g : Nat) (q : HV) : Nat → HV := fun j => if g < 24 then (if j = g then q else PH j) else (if j = 23 then q else PH (j + 1))
def gk (g : Nat) : Nat := if g < 24 then g + 1 else 24
section PA1
variable {ln : Nat → Option Int32} {lf : Nat → Nat → Option Nat} {dk : Nat → Option Nat} {hv tv v : HV} {w : Nat → Int32} {A B : AH} {PH : Nat → HV} {g : Nat}
theorem KV.keep {r : Nat} {w' : Nat → Int32} (h : KV ln lf dk v w r B) (e : ∀ i, r ≤ i → i < r + 43 → w' i = w i) : KV ln lf dk v w' r B := ⟨h.1, h.2.1.keep h.2.2.1.1 e, h.2.2⟩
theorem PVs.keep {w' : Nat → Int32} (h : PVs ln lf dk PH w g) (e : ∀ i, 215 ≤ i → w' i = w i) : PVs ln lf dk PH w' g := ⟨h.1, fun j hj => by
  obtain ⟨B, hB⟩ := h.2 j hj
  exact ⟨B, hB.keep (fun i h1 _ => e i (by omega))⟩⟩
theorem shift_eq (w : Nat → Int32) : ∃ w', lp (fX9_minds_b11) FU (0, w) = some w' ∧ (∀ i, i < 989 → w' (215 + i) = w (215 + i + 43)) ∧ ∀ i, i < 215 ∨ 1204 ≤ i → w' i = w i := by
  refine lp_inv (fun (k : Nat) (s : Int32 × (Nat → Int32)) => s.1 = Int32.ofNat k ∧ (∀ i, i < k → s.2 (215 + i) = w (215 + i + 43)) ∧ ∀ i, i < 215 ∨ 215 + k ≤ i → s.2 i = w i) _ 989 (FUlt (by omega)) (fun k hk s hI => ?_) ⟨rfl, fun i h => by omega, fun i _ => rfl⟩
  obtain ⟨c, z⟩ := s
  obtain ⟨i1, i2, i3⟩ := hI
  dsimp only at i1 i2 i3
  subst i1
  unfold fX9_minds_b11
  dsimp only
  by_cases hlt : k < 989
  · left
    rw [if_neg (show ¬ (989 : Int32) ≤ Int32.ofNat k from nle (a := 989) (b := k) (by omega) (by omega) hlt), show (215 : Int32) = Int32.ofNat 215 from rfl, show (43 : Int32) = Int32.ofNat 43 from rfl, oadd, oadd, rdn (k := 215 + k + 43) (by omega) (by omega), Option.bind_some, wrn (k := 215 + k) (by omega) (by omega), Option.bind_some, o1]
    refine ⟨hlt, _, rfl, rfl, fun i hi => ?_, fun i hi => ?_⟩
    · dsimp only
      by_cases e : i = k
      · subst e; rw [upd_same]; exact i3 _ (by omega)
      · rw [upd_ne (by omega)]; exact i2 i (by omega)
    · dsimp only
      rw [upd_ne (by omega)]; exact i3 i (by omega)
  · right
    have : k = 989 := by omega
    subst this
    rw [if_pos (show (989 : Int32) ≤ Int32.ofNat 989 by decide)]
    exact ⟨_, rfl, i2, fun i hi => i3 i (by omega)⟩
theorem row_ix {g : Nat} : (215 + (43 * Int32.ofNat g) : Int32) = Int32.ofNat (215 + 43 * g) := by rw [show (43 : Int32) = Int32.ofNat 43 from rfl, show (215 : Int32) = Int32.ofNat 215 from rfl, ← Int32.ofNat_mul, oadd]
theorem past_keep (hm : MR w 0 A) (ok : OK A) (hN1 : 1 ≤ zN A) (hM : zM A ≤ 999) (hP : PVs ln lf dk PH w g) {q : HV} (hq : SR ln lf dk q A) (hqn : Htf q = (-1000000)) : ∃ w', fX9_minds w (Int32.ofNat g) = some (Int32.ofNat (gk g), w') ∧ PVs ln lf dk (pk PH g q) w' (gk g) ∧ ∀ i, i < 215 → w' i = w i := by
  have hg := hP.1
  by_cases c : g < 24
  · obtain ⟨w', h1, h2, h3⟩ := copyOf_eq (w := w) (a := 0) (b := 215 + 43 * g) (by omega) (by omega) (by omega)
    refine ⟨w', ?_, ⟨by unfold gk; rw [if_pos c]; omega, fun j hj => ?_⟩, fun i hi => h3 i (by omega)⟩
    · unfold fX9_minds gk
      rw [if_neg (show ¬ Int32.ofNat g = 24 from one g (c := 24) (by omega) (by omega) (by omega)), Option.bind_some]
      dsimp only
      rw [row_ix, show fX9_copyOf w 0 (Int32.ofNat (215 + 43 * g)) = _ from h1, Option.bind_some, o1, if_pos c]
    · unfold gk at hj
      rw [if_pos c] at hj
      unfold pk
      rw [if_pos c]
      by_cases e : j = g
      · rw [if_pos e, e]
        exact ⟨A, hq, hm.move ok.1 h2, ok, hN1, hM, hqn⟩
      · rw [if_neg e]
        obtain ⟨B, hB⟩ := hP.2 j (by omega)
        exact ⟨B, hB.keep (fun i h1 h2 => h3 i (by omega))⟩
  · have e24 : g = 24 := by omega
    subst e24
    obtain ⟨w1, s1, s2, s3⟩ := shift_eq w
    obtain ⟨w', h1, h2, h3⟩ := copyOf_eq (w := w1) (a := 0) (b := 215 + 43 * 23) (by omega) (by omega) (by omega)
    refine ⟨w', ?_, ⟨by decide, fun j hj => ?_⟩, fun i hi => (h3 i (by omega)).trans (s3 i (by omega))⟩
    · unfold fX9_minds gk
      rw [if_pos (show Int32.ofNat 24 = 24 from rfl), s1, Option.bind_some, Option.bind_some]
      dsimp only
      rw [show (215 + 43 * (Int32.ofNat 24 - 1) : Int32) = Int32.ofNat (215 + 43 * 23) by decide, show fX9_copyOf w1 0 (Int32.ofNat (215 + 43 * 23)) = _ from h1, Option.bind_some]
      rfl
    · have hj : j < 24 := hj
      unfold pk
      rw [if_neg c]
      by_cases e : j = 23
      · rw [if_pos e, e]
        exact ⟨A, hq, (hm.keep (w' := w1) ok.1 (fun i _ hi => s3 i (by omega))).move ok.1 h2, ok, hN1, hM, hqn⟩
      · rw [if_neg e]
        obtain ⟨B, hB⟩ := hP.2 (j + 1) (by omega)
        refine ⟨B, hB.1, hB.2.1.move hB.2.2.1.1 (fun k hk => ?_), hB.2.2⟩
        rw [h3 _ (by omega), show 215 + 43 * j + k = 215 + (43 * j + k) by omega, s2 _ (by omega)]
        exact congrArg w (show 215 + (43 * j + k) + 43 = 215 + 43 * (j + 1) + k by omega)
/-- what keep finds -/
def kOK (qa : Nat → Nat) (hs : Nat → Bool) (g : Nat) (PA : Nat → Option Nat) : Prop := (g < 24 ∧ PA g = some (qa 0)) ∨ (g = 24 ∧ PA 0 = some (qa 0) ∧ ∀ j, 1 ≤ j → j < 24 → ∃ e, PA j = some e ∧ hs e = true)
def pr (g : Nat) (PA PA' : Nat → Option Nat) : Prop := (g < 24 → PA' = PA) ∧ (g = 24 → (∀ j, j < 23 → PA' j = PA (j + 1)) ∧ PA' 23 = PA 0)
theorem vu_same {f : Nat → Option Nat} {k : Nat} {x : Option Nat} : va_up f k x k = x := if_pos rfl
theorem vu_ne {f : Nat → Option Nat} {k j : Nat} {x : Option Nat} (h : j ≠ k) : va_up f k x j = f j := if_neg h
theorem keep0_eq {PA : Nat → Option Nat} (ok : OK A) (hS : SR ln lf dk hv A) (hn : Htf hv = (-1000000)) (hg : g < 24) (hPA : PA g = none) : ∃ q, fX0_keep_0 hv (Int32.ofNat g) PA = some (Int32.ofNat (gk g), q) ∧ SR ln lf dk q A ∧ Htf q = (-1000000) := by
  obtain ⟨q, h1, h2, -, h4⟩ := become_eq (tv := hv0 0) ok hS hn
  refine ⟨q, ?_, h2, h4⟩
  have hgi : gix 24 (Int32.ofNat g) = some () := by
    unfold gix
    rw [tnc (by omega), if_neg (fun h => h.elim (fun h => nneg (k := g) (by omega) h) (fun h => by omega))]
  unfold fX0_keep_0 gk
  rw [if_neg (show ¬ Int32.ofNat g = 24 from one g (c := 24) (by omega) (by omega) (by omega)), rdqn hg (by omega), hPA, Option.bind_some, if_pos rfl, hgi, Option.bind_some, h1, Option.bind_some, o1, if_pos hg]
theorem rot_eq {hs : Nat → Bool} {PA : Nat → Option Nat} (h : ∀ j, 1 ≤ j → j < 24 → ∃ e, PA j = some e ∧ hs e = true) : ∃ r, lp (fX0_keep_b18 hs) FU (1, PA) = some r ∧ ∀ j, j < 23 → r j = PA (j + 1) := by
  refine lp_inv (fun (k : Nat) (s : Int32 × (Nat → Option Nat)) => s.1 = Int32.ofNat (k + 1) ∧ (∀ j, j < k → s.2 j = PA (j + 1)) ∧ ∀ j, k ≤ j → s.2 j = PA j) _ 23 (FUlt (by omega)) (fun k hk s hI => ?_) ⟨rfl, fun i h => by omega, fun i _ => rfl⟩
  obtain ⟨c, z⟩ := s
  obtain ⟨i1, i2, i3⟩ := hI
  dsimp only at i1 i2 i3
  subst i1
  unfold fX0_keep_b18
  dsimp only
  by_cases hlt : k < 23
  · left
    obtain ⟨e, he1, he2⟩ := h (k + 1) (by omega) (by omega)
    have hm1 : Int32.ofNat (k + 1) - 1 = Int32.ofNat k := by rw [← o1, Int32.add_sub_cancel]
    have hgi : gix 24 (Int32.ofNat k) = some () := by
      unfold gix
      rw [tnc (by omega), if_neg (fun h => h.elim (fun h => nneg (k := k) (by omega) h) (fun h => by omega))]
    rw [if_neg (show ¬ (24 : Int32) ≤ Int32.ofNat (k + 1) from nle (a := 24) (b := k + 1) (by omega) (by omega) (by omega)), rdqn (k := k + 1) (by omega) (by omega), i3 (k + 1) (by omega), he1, Option.bind_some, Option.bind_some, hm1, hgi, Option.bind_some, show ghs hs e = some () from if_pos he2, Option.bind_some, o1, tnc (by omega)]
    refine ⟨hlt, _, rfl, rfl, fun j hj => ?_, fun j hj => ?_⟩
    · dsimp only
      by_cases e' : j = k
      · subst e'; rw [vu_same]; exact he1.symm
      · rw [vu_ne e']; exact i2 j (by omega)
    · dsimp only
      rw [vu_ne (by omega)]; exact i3 j (by omega)
  · right
    have : k = 23 := by omega
    subst this
    rw [if_pos (show (24 : Int32) ≤ Int32.ofNat (23 + 1) by decide)]
    exact ⟨_, rfl, i2⟩
theorem keep1_eq {qa : Nat → Nat} {hs : Nat → Bool} {PA : Nat → Option Nat} (qv : HV) (ok : OK A) (hS : SR ln lf dk hv A) (hn : Htf hv = (-1000000)) (hk : kOK qa hs g PA) : ∃ q PA', fX0_keep_1 qa hs hv qv (Int32.ofNat g) PA = some (q, Int32.ofNat (gk g), PA') ∧ SR ln lf dk q A ∧ Htf q = (-1000000) ∧ pr g PA PA' := by
  obtain ⟨q, h1, h2, -, h4⟩ := become_eq (tv := qv) ok hS hn
  rcases hk with ⟨k1, k2⟩ | ⟨rfl, k2, k3⟩
  · refine ⟨q, PA, ?_, h2, h4, fun _ => rfl, fun h => by omega⟩
    unfold fX0_keep_1 gk
    rw [if_neg (show ¬ Int32.ofNat g = 24 from one g (c := 24) (by omega) (by omega) (by omega)), Option.bind_some]
    dsimp only
    rw [rdqn k1 (by omega), k2, Option.bind_some, if_neg (by simp), Option.bind_some, Option.bind_some, Option.bind_some, show eqa (qa 0) (qa 0) = some () from if_pos rfl, Option.bind_some, h1, Option.bind_some, o1, if_pos k1]
  · obtain ⟨r, r1, r2⟩ := rot_eq k3
    refine ⟨q, va_up r 23 (some (qa 0)), ?_, h2, h4, fun h => by omega, fun _ => ⟨fun j hj => by rw [vu_ne (by omega)]; exact r2 j hj, vu_same.trans k2.symm⟩⟩
    unfold fX0_keep_1 gk
    rw [if_pos (show Int32.ofNat 24 = 24 from rfl), show rdq PA 24 0 = some (PA 0) from rdqn (k := 0) (by omega) (by omega), k2, Option.bind_some, Option.bind_some, show eqa (qa 0) (qa 0) = some () from if_pos rfl, Option.bind_some, r1, Option.bind_some, Option.bind_some]
    dsimp only
    rw [show (Int32.ofNat 24 - 1 : Int32) = Int32.ofNat 23 by decide, rdqn (k := 23) (by omega) (by omega), vu_same, Option.bind_some, if_neg (by simp), Option.bind_some, Option.bind_some, Option.bind_some, show eqa (qa 0) (qa 0) = some () from if_pos rfl, Option.bind_some, h1, Option.bind_some]
    rfl
end PA1
