/-! THE PLAIN LAW 3: the reference's numbers compute it -/
set_option maxRecDepth 100000
theorem rdk {w : Nat → Int32} {r c k : Nat} (h : r + c + k < 1247) : rd w 1247 (Int32.ofNat r + Int32.ofNat c + Int32.ofNat k) = some (w (r + c + k)) := rde _ (by rw [oadd, oadd]) h (by omega)
theorem rd1 {w : Nat → Int32} {r c : Nat} (h : r + c < 1247) : rd w 1247 (Int32.ofNat r + Int32.ofNat c) = some (w (r + c)) := rde _ (by rw [oadd]) h (by omega)
theorem wrk {w : Nat → Int32} {r c k : Nat} {x : Int32} (h : r + c + k < 1247) : wr w 1247 (Int32.ofNat r + Int32.ofNat c + Int32.ofNat k) x = some (upd w (r + c + k) x) := wre _ (by rw [oadd, oadd]) h (by omega)
theorem wr1 {w : Nat → Int32} {r c : Nat} {x : Int32} (h : r + c < 1247) : wr w 1247 (Int32.ofNat r + Int32.ofNat c) x = some (upd w (r + c) x) := wre _ (by rw [oadd]) h (by omega)
theorem pos10 {h a : Nat} (hh : h ≤ 2) (ha : a < 9) : (Int32.ofNat (pos h a) = 10) = (h = 1) := by
  have e : (Int32.ofNat (pos h a) = 10) = (pos h a = 10) := q_eq (c := 10) (by unfold pos; split <;> omega) (by omega)
  rw [e]
  unfold pos
  apply propext
  split <;> omega
theorem pos11 {h a : Nat} (hh : h ≤ 2) (ha : a < 9) : (Int32.ofNat (pos h a) = 11) = (h = 2) := by
  have e : (Int32.ofNat (pos h a) = 11) = (pos h a = 11) := q_eq (c := 11) (by unfold pos; split <;> omega) (by omega)
  rw [e]
  unfold pos
  apply propext
  split <;> omega
section MOD
variable {w : Nat → Int32} {r N : Nat} {h a x : Nat → Nat}
theorem inside_eq (hr : r + 43 ≤ 1247) (hn : w (r + 0) = Int32.ofNat N) (hN : N ≤ 6) (hp : ∀ k, k < N → w (r + 13 + k) = Int32.ofNat (pos (h k) (a k))) (hh : ∀ k, k < N → h k ≤ 2) (ha : ∀ k, k < N → a k < 9) : fX9_insideOf w (Int32.ofNat r) = some (bs N (fun k => h k == 1)) := by
  have r0 : rd w 1247 (Int32.ofNat r + 0) = some (w (r + 0)) := rd1 (c := 0) (by omega)
  have := lp_cnt (b := fX9_insideOf_b4 w (Int32.ofNat r)) (r := bs N (fun k => h k == 1)) (n := N) (FUlt (by omega)) (fun k => (bs k (fun k => h k == 1), Int32.ofNat k)) (fun k hk => by
    have r13 : rd w 1247 (Int32.ofNat r + 13 + Int32.ofNat k) = some (w (r + 13 + k)) := rdk (c := 13) (by omega)
    simp only [fX9_insideOf_b4, r0, hn, Option.bind_some, if_neg (nle (a := N) (b := k) (by omega) (by omega) hk), r13, hp k hk, pos10 (hh k hk) (ha k hk), o1]
    by_cases e2 : h k = 1
    · rw [if_pos e2]; simp [bs, e2]
    · rw [if_neg e2]; simp [bs, e2]) (by
    simp only [fX9_insideOf_b4, r0, hn, Option.bind_some, if_pos (yle (a := N) (b := N) (by omega) (by omega) (Nat.le_refl _))])
  exact congrArg (fun z => Option.bind z fun r1 => some r1) this
theorem served_eq (hr : r + 43 ≤ 1247) (hn : w (r + 0) = Int32.ofNat N) (hN : N ≤ 6) (hp : ∀ k, k < N → w (r + 13 + k) = Int32.ofNat (pos (h k) (a k))) (hh : ∀ k, k < N → h k ≤ 2) (ha : ∀ k, k < N → a k < 9) : fX9_servedOf w (Int32.ofNat r) = some (bs N (fun k => h k == 2)) := by
  have r0 : rd w 1247 (Int32.ofNat r + 0) = some (w (r + 0)) := rd1 (c := 0) (by omega)
  have := lp_cnt (b := fX9_servedOf_b4 w (Int32.ofNat r)) (r := bs N (fun k => h k == 2)) (n := N) (FUlt (by omega)) (fun k => (bs k (fun k => h k == 2), Int32.ofNat k)) (fun k hk => by
    have r13 : rd w 1247 (Int32.ofNat r + 13 + Int32.ofNat k) = some (w (r + 13 + k)) := rdk (c := 13) (by omega)
    simp only [fX9_servedOf_b4, r0, hn, Option.bind_some, if_neg (nle (a := N) (b := k) (by omega) (by omega) hk), r13, hp k hk, pos11 (hh k hk) (ha k hk), o1]
    by_cases e2 : h k = 2
    · rw [if_pos e2]; simp [bs, e2]
    · rw [if_neg e2]; simp [bs, e2]) (by
    simp only [fX9_servedOf_b4, r0, hn, Option.bind_some, if_pos (yle (a := N) (b := N) (by omega) (by omega) (Nat.le_refl _))])
  exact congrArg (fun z => Option.bind z fun r1 => some r1) this
theorem weightOf_eq {p : Nat → Bool} (hr : r + 43 ≤ 1247) (hn : w (r + 0) = Int32.ofNat N) (hN : N ≤ 6) (hx : ∀ k, k < N → w (r + 25 + k) = Int32.ofNat (x k)) : fX9_weightOf w (Int32.ofNat r) (bs N p) = some (sm N (fun k => if p k then Int32.ofNat (x k) else 0)) := by
  have r0 : rd w 1247 (Int32.ofNat r + 0) = some (w (r + 0)) := rd1 (c := 0) (by omega)
  have := lp_cnt (b := fX9_weightOf_b5 w (Int32.ofNat r) (bs N p)) (r := sm N (fun k => if p k then Int32.ofNat (x k) else 0)) (n := N) (FUlt (by omega)) (fun k => (sm k (fun k => if p k then Int32.ofNat (x k) else 0), Int32.ofNat k)) (fun k hk => by
    have r25 : rd w 1247 (Int32.ofNat r + 25 + Int32.ofNat k) = some (w (r + 25 + k)) := rdk (c := 25) (by omega)
    simp only [fX9_weightOf_b5, r0, hn, Option.bind_some, if_neg (nle (a := N) (b := k) (by omega) (by omega) hk), r25, hx k hk, has_bs hN p hk, o1]
    cases e2 : p k
    · simp [sm, e2]
    · simp [sm, e2]) (by
    simp only [fX9_weightOf_b5, r0, hn, Option.bind_some, if_pos (yle (a := N) (b := N) (by omega) (by omega) (Nat.le_refl _))])
  exact congrArg (fun z => Option.bind z fun r1 => some r1) this
end MOD
/-- positions in a row that is being served -/
def PR (w w' : Nat → Int32) (r N : Nat) (h a : Nat → Nat) : Prop := (∀ i, i < r + 13 ∨ r + 19 ≤ i → w' i = w i) ∧ ∀ k, k < N → w' (r + 13 + k) = Int32.ofNat (pos (h k) (a k))
theorem PR.keep {w w' : Nat → Int32} {r N : Nat} {h h' a : Nat → Nat} (hp : PR w w' r N h a) (e : ∀ k, k < N → pos (h' k) (a k) = pos (h k) (a k)) : PR w w' r N h' a := ⟨hp.1, fun k hk => by rw [hp.2 k hk, e k hk]⟩
theorem PR.put {w w' : Nat → Int32} {r N : Nat} {h h' a : Nat → Nat} {j : Nat} {v : Int32} (hp : PR w w' r N h a) (hj : j < N) (hN : N ≤ 6) (e : ∀ k, k < N → k ≠ j → h' k = h k) (ev : v = Int32.ofNat (pos (h' j) (a j))) : PR w (upd w' (r + 13 + j) v) r N h' a := by
  refine ⟨fun i hi => by rw [upd_ne (by omega)]; exact hp.1 i hi, fun k hk => ?_⟩
  by_cases q : k = j
  · subst q; rw [upd_same]; exact ev
  · rw [upd_ne (by omega), hp.2 k hk, e k hk q]
def sv1 (v19 v28 v24 : Int32) : Option Int32 :=
  (if v19 = 10 then some 1 else if v19 = v28 then some 1 else some 0 : Option Int32).bind fun j20 =>
  (if j20 = 0 then some v19 else if v24 = v28 then some 11 else some v19 : Option Int32)
theorem sv1_eq : ∀ h : Fin 3, ∀ a t c : Fin 9, sv1 (Int32.ofNat (pos h.val a.val)) (Int32.ofNat c.val) (Int32.ofNat t.val) = some (Int32.ofNat (pos (if h.val ≠ 2 ∧ t.val = c.val ∧ (h.val = 1 ∨ a.val = c.val) then 2 else h.val) a.val)) := by decide +kernel
section MOD2
variable {w : Nat → Int32} {r : Nat} {A : AH}
theorem serves1_eq (hr : r + 43 ≤ 1247) (ok : OK A) (hm : MR w r A) : ∃ w', lp (fX9_serves_b2 (Int32.ofNat r)) FU (0, w) = some w' ∧ PR w w' r (zN A) (s1 A) (zA A) := by
  obtain ⟨k1, k2, k3, k4, k6⟩ := ok
  obtain ⟨m0, m1, m2, m3, m4, m5, m6, m7⟩ := hm
  refine lp_inv (fun (k : Nat) (s : Int32 × (Nat → Int32)) => s.1 = Int32.ofNat k ∧ PR w s.2 r (zN A) (fun j => if j < k then s1 A j else zH A j) (zA A)) (fun (w' : Nat → Int32) => PR w w' r (zN A) (s1 A) (zA A)) (zN A) (FUlt (by omega)) (fun k hk s hI => ?_) ⟨rfl, fun i _ => rfl, fun j hj => by simp only [Nat.not_lt_zero, if_false]; exact (m7 j hj).2.1⟩
  obtain ⟨i, f⟩ := s
  obtain ⟨h1, h2⟩ := hI
  dsimp only at h1 h2
  subst h1
  have f0 : f (r + 0) = Int32.ofNat (zN A) := by rw [h2.1 _ (by omega)]; exact m0
  have r0 : rd f 1247 (Int32.ofNat r + 0) = some (f (r + 0)) := rd1 (c := 0) (by omega)
  by_cases hlt : k < zN A
  · left
    obtain ⟨b1, b2, b3, b4, b5, b6, b7, b8⟩ := k6 k hlt
    have r13 : rd f 1247 (Int32.ofNat r + 13 + Int32.ofNat k) = some (f (r + 13 + k)) := rdk (c := 13) (by omega)
    have r19 : rd f 1247 (Int32.ofNat r + 19 + Int32.ofNat k) = some (f (r + 19 + k)) := rdk (c := 19) (by omega)
    have r4 : rd f 1247 (Int32.ofNat r + 4) = some (f (r + 4)) := rd1 (c := 4) (by omega)
    have wr13 : ∀ v, wr f 1247 (Int32.ofNat r + 13 + Int32.ofNat k) v = some (upd f (r + 13 + k) v) := fun v => wrk (c := 13) (by omega)
    have e13 : f (r + 13 + k) = Int32.ofNat (pos (zH A k) (zA A k)) := by
      have e := h2.2 k hlt
      dsimp only at e
      rw [e, if_neg (Nat.lt_irrefl k)]
    have e19 : f (r + 19 + k) = Int32.ofNat (zT A k) := by rw [h2.1 _ (by omega)]; exact (m7 k hlt).2.2.1
    have e4 : f (r + 4) = Int32.ofNat (zC A) := by rw [h2.1 _ (by omega)]; exact m4
    have hs : sv1 (Int32.ofNat (pos (zH A k) (zA A k))) (Int32.ofNat (zC A)) (Int32.ofNat (zT A k)) = some (Int32.ofNat (pos (s1 A k) (zA A k))) := sv1_eq ⟨zH A k, by omega⟩ ⟨zA A k, by omega⟩ ⟨zT A k, by omega⟩ ⟨zC A, by omega⟩
    refine ⟨hlt, (Int32.ofNat (k + 1), upd f (r + 13 + k) (Int32.ofNat (pos (s1 A k) (zA A k)))), ?_, rfl, h2.put hlt k1 (fun j hj hne => ?_) (by rw [if_pos (by omega)])⟩
    · unfold sv1 at hs
      simp only [fX9_serves_b2, r0, f0, Option.bind_some, if_neg (nle (a := zN A) (b := k) (by omega) (by omega) hlt), r13, r19, r4, e13, e19, e4]
      cases hj : (if Int32.ofNat (pos (zH A k) (zA A k)) = 10 then some 1 else if Int32.ofNat (pos (zH A k) (zA A k)) = Int32.ofNat (zC A) then some 1 else some 0 : Option Int32) with
      | none => rw [hj] at hs; cases hs
      | some j20 =>
        rw [hj, Option.bind_some] at hs
        rw [Option.bind_some, hs, Option.bind_some, wr13, Option.bind_some, o1]
    · by_cases q : j < k
      · rw [if_pos q, if_pos (by omega)]
      · rw [if_neg q, if_neg (by omega)]
  · right
    have : k = zN A := by omega
    subst this
    refine ⟨f, ?_, h2.1, fun j hj => by
      have e := h2.2 j hj
      dsimp only at e
      rw [e, if_pos hj]⟩
    simp only [fX9_serves_b2, r0, f0, Option.bind_some, if_pos (yle (a := zN A) (b := zN A) (by omega) (by omega) (Nat.le_refl _))]
end MOD2
