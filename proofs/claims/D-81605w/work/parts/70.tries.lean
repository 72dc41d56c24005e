/-! THE PLAIN LAW 6: guards, trials -/
set_option maxRecDepth 100000
theorem g01 {α : Type} (c : Prop) [Decidable c] (a b : α) : (if (if c then (1 : Int32) else 0) = 0 then a else b) = if c then b else a := by
  by_cases h : c
  · rw [if_pos h, if_pos h]; rfl
  · rw [if_neg h, if_neg h]; rfl
theorem sub1 : ∀ N : Fin 10, (Int32.ofNat N.val - 1).toInt64.toInt = (N.val : Int) - 1 := by decide +kernel
theorem zero64 : (0 : Int64).toInt = 0 := by decide
theorem in0n (p : Int32) {n : Nat} (hn : n < 10) : fX0_isIn p.toInt64 0 ((Int32.ofNat n - 1).toInt64) = some (if 0 ≤ p.toInt ∧ p.toInt < n then 1 else 0) := by
  rw [in_eq, sub1 ⟨n, hn⟩, zero64]
  congr 1
  by_cases c : 0 ≤ p.toInt ∧ p.toInt < n
  · rw [if_pos c, if_pos (by dsimp only; omega)]
  · rw [if_neg c, if_neg (by dsimp only; omega)]
section GD
variable {ln : Nat → Option Int32} {lf : Nat → Nat → Option Nat} {dk : Nat → Option Nat} {hv : HV} {w : Nat → Int32} {N F : Nat}
theorem isDish_s (hl : ln (Hla hv) = some (Int32.ofNat N)) (hN : N < 10) (p : Int32) : fX0_isDish ln hv p = some (if 0 ≤ p.toInt ∧ p.toInt < N then 1 else 0) := by
  unfold fX0_isDish gX1_many fX1_many
  rw [hl, Option.bind_some, Option.bind_some, in0n p hN, Option.bind_some, gb01, Option.bind_some]
theorem isDish_m (h : w 0 = Int32.ofNat N) (hN : N < 10) (p : Int32) : fX9_isDish w p = some (if 0 ≤ p.toInt ∧ p.toInt < N then 1 else 0) := by
  unfold fX9_isDish
  have r0 : rd w 1247 0 = some (w 0) := rdn (k := 0) (by omega) (by omega)
  rw [r0, h, Option.bind_some, in_same, in0n p hN, Option.bind_some, gb01, Option.bind_some]
theorem isFloor_s (hf : Hfl hv = Int32.ofNat F) (hF : F < 10) (p : Int32) : fX0_isFloor hv p = some (if 0 ≤ p.toInt ∧ p.toInt < F then 1 else 0) := by
  unfold fX0_isFloor
  rw [hf, in0n p hF, Option.bind_some, gb01, Option.bind_some]
theorem isFloor_m (h : w 1 = Int32.ofNat F) (hF : F < 10) (p : Int32) : fX9_isFloor w p = some (if 0 ≤ p.toInt ∧ p.toInt < F then 1 else 0) := by
  unfold fX9_isFloor
  have r0 : rd w 1247 1 = some (w 1) := rdn (k := 1) (by omega) (by omega)
  rw [r0, h, Option.bind_some, in_same, in0n p hF, Option.bind_some, gb01, Option.bind_some]
theorem isHouse_s (hf : Hfl hv = Int32.ofNat F) (hF : F < 10) : fX0_isHouse hv = some (if 1 ≤ F then 1 else 0) := by
  unfold fX0_isHouse
  rw [hf]
  by_cases c : 1 ≤ F
  · rw [if_pos c, if_neg (show ¬ Int32.ofNat F ≤ 0 from nle (a := F) (b := 0) (by omega) (by omega) (by omega))]
  · rw [if_neg c, if_pos (show Int32.ofNat F ≤ 0 from yle (a := F) (b := 0) (by omega) (by omega) (by omega))]
theorem isHouse_m (h : w 0 = Int32.ofNat N) (hN : N < 10) : fX9_isHouse w = some (if 1 ≤ N then 1 else 0) := by
  unfold fX9_isHouse
  have r0 : rd w 1247 0 = some (w 0) := rdn (k := 0) (by omega) (by omega)
  rw [r0, h, Option.bind_some]
  by_cases c : 1 ≤ N
  · rw [if_pos c, if_neg (show ¬ Int32.ofNat N ≤ 0 from nle (a := N) (b := 0) (by omega) (by omega) (by omega))]
  · rw [if_neg c, if_pos (show Int32.ofNat N ≤ 0 from yle (a := N) (b := 0) (by omega) (by omega) (by omega))]
end GD
theorem inl_eq (p : Int32) (a b : Nat) (ha : a < 1000000) (hb : b < 1000000) : fX0_isIn p.toInt64 (Int64.ofNat a) (Int64.ofNat b) = some (if (a : Int) ≤ p.toInt ∧ p.toInt ≤ b then 1 else 0) := by
  rw [in_eq, Int64.toInt_ofNat_of_lt (by omega), Int64.toInt_ofNat_of_lt (by omega)]
theorem isFar_s (p : Int32) : fX0_isFar p = some (if 0 ≤ p.toInt ∧ p.toInt ≤ 60 then 1 else 0) := by
  unfold fX0_isFar
  rw [show fX0_isIn p.toInt64 0 60 = _ from inl_eq p 0 60 (by omega) (by omega), Option.bind_some, gb01, Option.bind_some]
  rfl
theorem isNear_s (p : Int32) : fX0_isNear p = some (if 1 ≤ p.toInt ∧ p.toInt ≤ 40 then 1 else 0) := by
  unfold fX0_isNear
  rw [show fX0_isIn p.toInt64 1 40 = _ from inl_eq p 1 40 (by omega) (by omega), Option.bind_some, gb01, Option.bind_some]
  rfl
theorem isHalf_s (p : Int32) : fX0_isHalf p = some (if 0 ≤ p.toInt ∧ p.toInt ≤ 1 then 1 else 0) := by
  unfold fX0_isHalf
  rw [show fX0_isIn p.toInt64 0 1 = _ from inl_eq p 0 1 (by omega) (by omega), Option.bind_some, gb01, Option.bind_some]
  rfl
theorem in60 (p : Int32) : fX9_in p.toInt64 0 60 = some (if 0 ≤ p.toInt ∧ p.toInt ≤ 60 then 1 else 0) := inl_eq p 0 60 (by omega) (by omega)
theorem in40 (p : Int32) : fX9_in p.toInt64 1 40 = some (if 1 ≤ p.toInt ∧ p.toInt ≤ 40 then 1 else 0) := inl_eq p 1 40 (by omega) (by omega)
theorem in01 (p : Int32) : fX9_in p.toInt64 0 1 = some (if 0 ≤ p.toInt ∧ p.toInt ≤ 1 then 1 else 0) := inl_eq p 0 1 (by omega) (by omega)
/-! minutes of a trial -/
def pan : Nat → AH → AH
  | 0, A => A
  | n + 1, A => pa (pan n A)
theorem OK.pan {A : AH} (ok : OK A) : ∀ n, OK (pan n A)
  | 0 => ok
  | n + 1 => (OK.pan ok n).pa
theorem pan_N (A : AH) : ∀ n, zN (pan n A) = zN A
  | 0 => rfl
  | n + 1 => (pa_N _).trans (pan_N A n)
theorem pan_F (A : AH) : ∀ n, zF (pan n A) = zF A
  | 0 => rfl
  | n + 1 => (pa_F _).trans (pan_F A n)
theorem pan_M (A : AH) : ∀ n, zM (pan n A) = zM A + n
  | 0 => rfl
  | n + 1 => (pa_M _).trans (by rw [pan_M A n]; rfl)
/-- a house that stands -/
def LV (ln : Nat → Option Int32) (lf : Nat → Nat → Option Nat) (dk : Nat → Option Nat) (hv : HV) (w : Nat → Int32) (A : AH) : Prop := SR ln lf dk hv A ∧ MR w 0 A ∧ OK A ∧ 1 ≤ zN A ∧ zM A ≤ 999 ∧ Htf hv = (-1000000)
/-- none yet -/
def EV (ln : Nat → Option Int32) (hv : HV) (w : Nat → Int32) : Prop := ln (Hla hv) = some (Int32.ofNat 0) ∧ Hfl hv = Int32.ofNat 0 ∧ Hmi hv = 0 ∧ w 0 = Int32.ofNat 0 ∧ w 1 = Int32.ofNat 0 ∧ w 6 = 0 ∧ Htf hv = (-1000000)
section TR
variable {ln : Nat → Option Int32} {lf : Nat → Nat → Option Nat} {dk : Nat → Option Nat} {hv tv : HV} {w : Nat → Int32} {A : AH}
theorem tried_eq (h : LV ln lf dk hv w A) (tv : HV) : ∃ v', fX0_tried hv tv = some v' ∧ SR ln lf dk v' A ∧ Htf v' = (-1000000) := by
  obtain ⟨v', h1, h2, -, h4⟩ := become_eq (tv := tv) h.2.2.1 h.1 h.2.2.2.2.2
  refine ⟨v', ?_, h2, h4⟩
  unfold fX0_tried
  rw [h1]; rfl
theorem tries_eq (hN : zN A ≤ 6) (hm : MR w 0 A) : ∃ w', fX9_tries w = some w' ∧ MR w' 43 A ∧ MR w' 0 A ∧ FR w w' 43 := by
  obtain ⟨w', h1, h2, h3⟩ := copyOf_eq (w := w) (a := 0) (b := 43) (by omega) (by omega) (by omega)
  refine ⟨w', ?_, hm.move hN h2, hm.keep hN (fun i _ hi => h3 i (by omega)), h3⟩
  unfold fX9_tries
  rw [show fX9_copyOf w 0 43 = some w' from h1]; rfl
theorem goOn_eq {v : HV} (ok : OK A) (hS : SR ln lf dk v A) : ∀ {n : Nat}, n ≤ 1000 → zM A + n < 1000000 → ∃ v', fX0_goOn ln lf dk v (Int32.ofNat n) = some v' ∧ SR ln lf dk v' (pan n A) ∧ Htf v' = Htf v := by
  intro n hn hM
  obtain ⟨v', h1, h2⟩ := lp_inv (b := fX0_goOn_b2 ln lf dk (Int32.ofNat n)) (s := (0, v)) (fun (k : Nat) (s : Int32 × HV) => s.1 = Int32.ofNat k ∧ SR ln lf dk s.2 (pan k A) ∧ Htf s.2 = Htf v) (fun (v' : HV) => SR ln lf dk v' (pan n A) ∧ Htf v' = Htf v) n (FUlt hn) (fun k hk s hI => by
    obtain ⟨i, u⟩ := s
    obtain ⟨h1, h2, h3⟩ := hI
    dsimp only at h1 h2 h3
    subst h1
    by_cases hlt : k < n
    · left
      obtain ⟨u', g1, g2, -, g4, -⟩ := pass_eq (ok.pan k) (by rw [pan_M]; omega) h2
      refine ⟨hlt, (Int32.ofNat (k + 1), u'), ?_, rfl, g2, g4.trans h3⟩
      unfold fX0_goOn_b2
      dsimp only
      rw [if_neg (nle (a := n) (b := k) (by omega) (by omega) hlt), g1, Option.bind_some, o1]
    · right
      have : k = n := by omega
      subst this
      refine ⟨u, ?_, h2, h3⟩
      unfold fX0_goOn_b2
      dsimp only
      rw [if_pos (yle (a := k) (b := k) (by omega) (by omega) (Nat.le_refl _))]) ⟨rfl, hS, rfl⟩
  refine ⟨v', ?_, h2⟩
  unfold fX0_goOn
  rw [h1]; rfl
theorem goesOn_eq (ok : OK A) (hm : MR w 43 A) : ∀ {n : Nat}, n ≤ 1000 → zM A + n < 1000000 → ∃ w', fX9_goesOn w (Int32.ofNat n) = some w' ∧ MR w' 43 (pan n A) ∧ FR w w' 43 := by
  intro n hn hM
  obtain ⟨w', h1, h2⟩ := lp_inv (b := fX9_goesOn_b2 (Int32.ofNat n)) (s := (0, w)) (fun (k : Nat) (s : Int32 × (Nat → Int32)) => s.1 = Int32.ofNat k ∧ MR s.2 43 (pan k A) ∧ FR w s.2 43) (fun (w' : Nat → Int32) => MR w' 43 (pan n A) ∧ FR w w' 43) n (FUlt hn) (fun k hk s hI => by
    obtain ⟨i, u⟩ := s
    obtain ⟨h1, h2, h3⟩ := hI
    dsimp only at h1 h2 h3
    subst h1
    by_cases hlt : k < n
    · left
      obtain ⟨u', g1, g2, g3⟩ := passes_eq (r := 43) (by omega) (ok.pan k) (by rw [pan_M]; omega) h2
      refine ⟨hlt, (Int32.ofNat (k + 1), u'), ?_, rfl, g2, h3.trans g3⟩
      unfold fX9_goesOn_b2
      dsimp only
      rw [if_neg (nle (a := n) (b := k) (by omega) (by omega) hlt), show fX9_passes u 43 = some u' from g1, Option.bind_some, o1]
    · right
      have : k = n := by omega
      subst this
      refine ⟨u, ?_, h2, h3⟩
      unfold fX9_goesOn_b2
      dsimp only
      rw [if_pos (yle (a := k) (b := k) (by omega) (by omega) (Nat.le_refl _))]) ⟨rfl, hm, fun i _ => rfl⟩
  refine ⟨w', ?_, h2⟩
  unfold fX9_goesOn
  rw [h1]; rfl
end TR
