/-! THE PLAIN LAW 25: count, feed -/
set_option maxRecDepth 100000
section CO
variable {ln : Nat → Option Int32} {lf : Nat → Nat → Option Nat} {dk : Nat → Option Nat} {dn : Nat → Int32} {hv : HV} {w : Nat → Int32} {A : AH} {rs : Nat → Option Rw} {MA LA IT : Nat → Int32} {RW : Nat → Option Nat}
theorem rows_s : ∃ r, lp (fX0_count_b54 RW) FU (0, 0) = some r ∧ r = Int32.ofNat (cn 8 (fun i => (RW i).isSome)) := by
  refine lp_inv (fun (k : Nat) (s : Int32 × Int32) => s.1 = Int32.ofNat (cn k (fun i => (RW i).isSome)) ∧ s.2 = Int32.ofNat k) _ 8 (FUlt (by omega)) (fun k hk s hI => ?_) ⟨rfl, rfl⟩
  obtain ⟨a, i⟩ := s
  obtain ⟨i1, i2⟩ := hI
  dsimp only at i1 i2
  subst i1; subst i2
  unfold fX0_count_b54
  dsimp only
  by_cases hlt : k < 8
  · left
    rw [if_neg (show ¬ (8 : Int32) ≤ Int32.ofNat k from nle (a := 8) (b := k) (by omega) (by omega) hlt), rdqn hlt (by omega), Option.bind_some, o1]
    refine ⟨hlt, ?_⟩
    cases c : RW k with
    | none =>
      rw [if_pos rfl]
      refine ⟨_, rfl, ?_, rfl⟩
      show Int32.ofNat _ + 0 = Int32.ofNat (_ + (if (RW k).isSome then 1 else 0))
      rw [c, Int32.add_zero]; rfl
    | some a =>
      rw [if_neg (by simp)]
      refine ⟨_, rfl, ?_, rfl⟩
      show Int32.ofNat _ + 1 = Int32.ofNat (_ + (if (RW k).isSome then 1 else 0))
      rw [c, o1]; rfl
  · right
    have : k = 8 := by omega
    subst this
    rw [if_pos (show (8 : Int32) ≤ Int32.ofNat 8 by decide)]
    exact ⟨_, rfl, rfl⟩
theorem rows_m (hR : RR rs MA LA IT) : ∃ r, lp (fX9_rowsThere_b4 MA) FU (0, 0) = some r ∧ r = Int32.ofNat (cn 8 (fun i => (rs i).isSome)) := by
  refine lp_inv (fun (k : Nat) (s : Int32 × Int32) => s.1 = Int32.ofNat (cn k (fun i => (rs i).isSome)) ∧ s.2 = Int32.ofNat k) _ 8 (FUlt (by omega)) (fun k hk s hI => ?_) ⟨rfl, rfl⟩
  obtain ⟨a, i⟩ := s
  obtain ⟨i1, i2⟩ := hI
  dsimp only at i1 i2
  subst i1; subst i2
  unfold fX9_rowsThere_b4
  dsimp only
  by_cases hlt : k < 8
  · left
    rw [if_neg (show ¬ (8 : Int32) ≤ Int32.ofNat k from nle (a := 8) (b := k) (by omega) (by omega) hlt), rdn hlt (by omega), Option.bind_some, o1]
    refine ⟨hlt, ?_⟩
    cases c : rs k with
    | none =>
      rw [if_pos (by rw [(hR k hlt).1 c]; decide)]
      refine ⟨_, rfl, ?_, rfl⟩
      show Int32.ofNat _ + 0 = Int32.ofNat (_ + (if (rs k).isSome then 1 else 0))
      rw [c, Int32.add_zero]; rfl
    | some x =>
      obtain ⟨b1, b2, -⟩ := (hR k hlt).2 x c
      rw [if_neg (by rw [b2]; exact nneg (by omega))]
      refine ⟨_, rfl, ?_, rfl⟩
      show Int32.ofNat _ + 1 = Int32.ofNat (_ + (if (rs k).isSome then 1 else 0))
      rw [c, o1]; rfl
  · right
    have : k = 8 := by omega
    subst this
    rw [if_pos (show (8 : Int32) ≤ Int32.ofNat 8 by decide)]
    exact ⟨_, rfl, rfl⟩
theorem waiting_eq (ok : OK A) (hm : MR w 0 A) : fX9_waiting w = some (Int32.ofNat (cn (zN A) (fun k => zH A k == 0))) := by
  have hN := ok.1
  have e0 : rd w 1247 0 = some (Int32.ofNat (zN A)) := (r0n (c := 0) (by omega)).trans (by rw [show w 0 = _ from hm.1])
  obtain ⟨r, l1, l2⟩ := lp_inv (b := fX9_waiting_b4 w) (s := (0, 0)) (fun (k : Nat) (s : Int32 × Int32) => s.1 = Int32.ofNat (cn k (fun i => zH A i == 0)) ∧ s.2 = Int32.ofNat k) (fun t => t = Int32.ofNat (cn (zN A) (fun k => zH A k == 0))) (zN A) (FUlt (by omega)) (fun k hk s hI => by
    obtain ⟨a, i⟩ := s
    obtain ⟨i1, i2⟩ := hI
    dsimp only at i1 i2
    subst i1; subst i2
    unfold fX9_waiting_b4
    dsimp only
    rw [e0, Option.bind_some]
    by_cases hlt : k < zN A
    · left
      have h1 := (ok.2.2.2.2 k hlt).2.1
      have h2 := (ok.2.2.2.2 k hlt).2.2.1
      have h3 := ok.2.1
      have g : (10 ≤ Int32.ofNat (pos (zH A k) (zA A k))) = (10 ≤ pos (zH A k) (zA A k)) := q_le (a := 10) (by omega) (by unfold pos; split <;> omega)
      have hmk := (hm.2.2.2.2.2.2.2 k hlt).2.1
      rw [Nat.zero_add] at hmk
      rw [if_neg (nle (a := zN A) (b := k) (by omega) (by omega) hlt), show rd w 1247 (13 + Int32.ofNat k) = some (w (13 + k)) from rdc (c := 13) (by omega), hmk, Option.bind_some, o1]
      refine ⟨hlt, ?_⟩
      have hcn : cn (k + 1) (fun i => zH A i == 0) = cn k (fun i => zH A i == 0) + (if (zH A k == 0) then 1 else 0) := rfl
      by_cases c : zH A k = 0
      · rw [if_neg (fun h => by have := Eq.mp g h; unfold pos at this; rw [if_pos c] at this; omega), o1]
        refine ⟨_, rfl, ?_, rfl⟩
        rw [hcn, c]; rfl
      · rw [if_pos (Eq.mpr g (by unfold pos; rw [if_neg c]; omega)), Int32.add_zero]
        refine ⟨_, rfl, ?_, rfl⟩
        rw [hcn, show (zH A k == 0) = false from beq_eq_false_iff_ne.mpr c]; rfl
    · right
      have : k = zN A := by omega
      subst this
      rw [if_pos (yle (a := zN A) (b := zN A) (by omega) (by omega) (Nat.le_refl _))]
      exact ⟨_, rfl, rfl⟩) ⟨rfl, rfl⟩
  unfold fX9_waiting
  rw [l1, l2]; rfl
theorem act_count (hT : TV ln lf dk hv w) (hR : RR rs MA LA IT) (hRW : ∀ i, i < 8 → (RW i).isSome = (rs i).isSome) (gt gc p1 : Int32) : ∃ ans, fX0_count ln hv gt gc RW p1 = some ans ∧ fX9_count w MA gc gt p1 = some ans := by
  unfold fX0_count fX9_count
  by_cases c0 : p1 = 0
  · obtain ⟨r, l1, l2⟩ := rows_s (RW := RW)
    obtain ⟨r', m1, m2⟩ := rows_m hR
    rw [if_pos c0, if_pos c0, l1]
    unfold fX9_rowsThere
    rw [m1, l2, m2, cn_congr (p := fun i => (RW i).isSome) (q := fun i => (rs i).isSome) hRW]
    exact ⟨_, rfl, rfl⟩
  rw [if_neg c0, if_neg c0]
  rcases hT with hE | ⟨A, hL⟩
  · obtain ⟨e1, e2, e3, e4, e5, e6, -⟩ := hE
    have r0 : rd w 1247 0 = some (Int32.ofNat 0) := (r0n (c := 0) (by omega)).trans (by rw [e4])
    have r1 : rd w 1247 1 = some (Int32.ofNat 0) := (r0n (c := 1) (by omega)).trans (by rw [e5])
    have r6 : rd w 1247 6 = some 0 := (r0n (c := 6) (by omega)).trans (by rw [e6])
    have hmany : gX1_many ln hv = some (Int32.ofNat 0) := by
      show (ln (Hla hv)).bind _ = _
      rw [e1]; rfl
    have hso : ∀ c : Nat, c ≤ 2 → gX1_areSo ln hv (Int32.ofNat c) = some (bs 0 (fun k => (fun _ => 0) k == c)) := fun c hc => areSo_eq (h := fun _ => 0) e1 (by omega) (fun k hk => by omega) (fun k hk => by omega) hc
    have hb : fJ15_bitCount 0 = some (Int32.ofNat 0) := bits_bs (n := 0) (by omega) (fun _ => false)
    have ho : fX9_ones 0 = some (Int32.ofNat 0) := ones_bs (n := 0) (by omega) (fun _ => false)
    have hw : fX9_waiting w = some 0 := by
      unfold fX9_waiting
      have : lp (fX9_waiting_b4 w) FU (0, 0) = some 0 := lp_end (f := 99999) (by unfold fX9_waiting_b4; rw [r0]; rfl)
      rw [this]; rfl
    have hsv : fX9_servedOf w 0 = some 0 := by
      unfold fX9_servedOf
      have : lp (fX9_servedOf_b4 w 0) FU (0, 0) = some 0 := lp_end (f := 99999) (by unfold fX9_servedOf_b4; rw [show rd w 1247 (0 + 0) = _ from r0]; rfl)
      rw [this]; rfl
    have hht : fX9_heatOf w 0 = some 0 := by
      unfold fX9_heatOf
      have : lp (fX9_heatOf_b4 w 0) FU (0, 0) = some 0 := lp_end (f := 99999) (by unfold fX9_heatOf_b4; rw [show rd w 1247 (0 + 0) = _ from r0]; rfl)
      rw [this]; rfl
    have hhs : gX1_heats ln hv 0 = some 0 := by
      show fX1_heats ln (Hla hv) (HHO hv) (HHE hv) 0 = some 0
      unfold fX1_heats
      have : lp (fX1_heats_b4 ln (Hla hv) (HHO hv) (HHE hv) 0) FU (0, 0) = some 0 := lp_end (f := 99999) (by unfold fX1_heats_b4 fX1_many; rw [e1]; rfl)
      rw [this]; rfl
    rw [hmany, e2, e3, r0, r1, r6, show gX1_areSo ln hv 0 = some 0 from hso 0 (by omega), show gX1_areSo ln hv 2 = some 0 from hso 2 (by omega), hw, hsv, hht, hhs]
    rw [Option.bind_some, Option.bind_some, Option.bind_some, Option.bind_some, hb, ho]
    by_cases c1 : p1 = 1
    · rw [if_pos c1, if_pos c1]; exact ⟨_, rfl, rfl⟩
    rw [if_neg c1, if_neg c1]
    by_cases c2 : p1 = 2
    · rw [if_pos c2, if_pos c2]; exact ⟨_, rfl, rfl⟩
    rw [if_neg c2, if_neg c2]
    by_cases c3 : p1 = 3
    · rw [if_pos c3, if_pos c3]; exact ⟨_, rfl, rfl⟩
    rw [if_neg c3, if_neg c3]
    by_cases c4 : p1 = 4
    · rw [if_pos c4, if_pos c4]; exact ⟨_, rfl, rfl⟩
    rw [if_neg c4, if_neg c4]
    by_cases c5 : p1 = 5
    · rw [if_pos c5]; exact ⟨_, rfl, rfl⟩
    rw [if_neg c5]
    by_cases c6 : p1 = 6
    · rw [if_pos c6]; exact ⟨_, rfl, rfl⟩
    rw [if_neg c6]
    by_cases c7 : p1 = 7
    · rw [if_pos c7]; exact ⟨_, rfl, rfl⟩
    rw [if_neg c7]
    by_cases c8 : p1 = 8
    · rw [if_pos c8]; exact ⟨_, rfl, rfl⟩
    rw [if_neg c8]
    exact ⟨_, rfl, rfl⟩
  · obtain ⟨hS, hm, ok, hN1, hM, hn⟩ := hL
    have r0 : rd w 1247 0 = some (Int32.ofNat (zN A)) := (r0n (c := 0) (by omega)).trans (by rw [show w 0 = _ from hm.1])
    have r1 : rd w 1247 1 = some (Int32.ofNat (zF A)) := (r0n (c := 1) (by omega)).trans (by rw [show w 1 = _ from hm.2.1])
    have r6 : rd w 1247 6 = some (Int32.ofNat (zM A)) := (r0n (c := 6) (by omega)).trans (by rw [show w 6 = _ from hm.2.2.2.2.2.2.1])
    have hsv : fX9_servedOf w 0 = some (svb A) := servedOf_v (r := 0) (by omega) ok hm
    have hht : fX9_heatOf w 0 = some (hal A) := heatOf_eq (r := 0) (by omega) ok hm
    rw [many_v hS, hS.2.1, hS.2.2.2.2.2.2.1, r0, r1, r6, areSo0 ok hS, areSo2 ok hS, waiting_eq ok hm, hsv, hht, heats0_eq ok hS]
    rw [Option.bind_some, Option.bind_some, Option.bind_some, Option.bind_some, Option.bind_some, Option.bind_some, Option.bind_some, Option.bind_some, show fJ15_bitCount (svb A) = _ from bits_bs ok.1 _, show fX9_ones (svb A) = _ from ones_bs ok.1 _, bits_bs ok.1]
    by_cases c1 : p1 = 1
    · rw [if_pos c1, if_pos c1]; exact ⟨_, rfl, rfl⟩
    rw [if_neg c1, if_neg c1]
    by_cases c2 : p1 = 2
    · rw [if_pos c2, if_pos c2]; exact ⟨_, rfl, rfl⟩
    rw [if_neg c2, if_neg c2]
    by_cases c3 : p1 = 3
    · rw [if_pos c3, if_pos c3]; exact ⟨_, rfl, rfl⟩
    rw [if_neg c3, if_neg c3]
    by_cases c4 : p1 = 4
    · rw [if_pos c4, if_pos c4]; exact ⟨_, rfl, rfl⟩
    rw [if_neg c4, if_neg c4]
    by_cases c5 : p1 = 5
    · rw [if_pos c5]; exact ⟨_, rfl, rfl⟩
    rw [if_neg c5]
    by_cases c6 : p1 = 6
    · rw [if_pos c6]; exact ⟨_, rfl, rfl⟩
    rw [if_neg c6]
    by_cases c7 : p1 = 7
    · rw [if_pos c7]; exact ⟨_, rfl, rfl⟩
    rw [if_neg c7]
    by_cases c8 : p1 = 8
    · rw [if_pos c8]; exact ⟨_, rfl, rfl⟩
    rw [if_neg c8]
    exact ⟨_, rfl, rfl⟩
end CO
/-- the tapes -/
def TP (t : Nat) (TA TM : Nat → Int32) : Prop := t ≤ 110 ∧ ∀ i, i < t → ∃ c : Nat, c < 256 ∧ TA i &&& 255 = Int32.ofNat c ∧ TM i = Int32.ofNat c
theorem byte_eq : ∀ c : Fin 256, vp_nar .byte (Int32.ofNat c.val).toInt8.toInt32 &&& 255 = Int32.ofNat c.val := by decide +kernel
theorem act_feed {t : Nat} {TA TM : Nat → Int32} (h : TP t TA TM) (p1 : Int32) : ∃ ans t' TA' TM', fX0_feed (Int32.ofNat t) TA p1 = some (ans, Int32.ofNat t', TA') ∧ fX9_feed TM (Int32.ofNat t) p1 = some (ans, Int32.ofNat t', TM') ∧ TP t' TA' TM' := by
  obtain ⟨h1, h2⟩ := h
  unfold fX0_feed fX9_feed
  rw [in_same, show fX0_isIn p1.toInt64 0 255 = _ from inl_eq p1 0 255 (by omega) (by omega), Option.bind_some, Option.bind_some, g01, g01]
  by_cases c : ((0 : Nat) : Int) ≤ p1.toInt ∧ p1.toInt ≤ ((255 : Nat) : Int)
  · rw [if_pos c, if_pos c]
    by_cases c2 : t = 110
    · have e : Int32.ofNat t = 110 := by rw [c2]; rfl
      rw [if_pos e, if_pos e]; exact ⟨_, t, _, _, rfl, rfl, h1, h2⟩
    · have e : ¬ Int32.ofNat t = 110 := one t (c := 110) (by omega) (by omega) c2
      obtain ⟨b, rfl, hb1, hb2⟩ := i32_of c.1
      have hwB : wrB TA 110 (Int32.ofNat t) (Int32.ofNat b).toInt8.toInt32 = some (upd TA t (vp_nar .byte (Int32.ofNat b).toInt8.toInt32)) := by
        unfold wrB
        rw [tnc (by omega), if_neg (fun h => h.elim (fun h => nneg (k := t) (by omega) h) (fun h => by omega))]
      rw [if_neg e, if_neg e, hwB, wrn (k := t) (by omega) (by omega), Option.bind_some, Option.bind_some, o1]
      refine ⟨_, t + 1, _, _, rfl, rfl, by omega, fun i hi => ?_⟩
      by_cases e : i = t
      · subst e; rw [upd_same, upd_same]; exact ⟨b, by omega, byte_eq ⟨b, by omega⟩, rfl⟩
      · rw [upd_ne e, upd_ne e]; exact h2 i (by omega)
  · rw [if_neg c, if_neg c]; exact ⟨_, t, _, _, rfl, rfl, h1, h2⟩
