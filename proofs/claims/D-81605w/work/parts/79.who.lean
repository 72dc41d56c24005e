/-! THE PLAIN LAW 15: who -/
set_option maxRecDepth 100000
def soB (B : AH) (d : Nat) (RC : Nat → Int32) : Nat → Bool
  | 0 => true
  | n + 1 => soB B d RC n && decide (Int32.ofNat (zG (pan (n + 1) B) d) = RC n)
def alA (A : AH) (d c x : Nat) : AH := if c = 0 then kiA A d (x - 1) else if c = 1 then caA A x else if c = 2 then geA A d x else rpA A (Int32.ofNat x)
def alP (A : AH) (c x : Nat) : Prop := (c = 0 ∧ 1 ≤ x ∧ x ≤ 5) ∨ (c = 1 ∧ x < zF A) ∨ (c = 2 ∧ x ≤ 60) ∨ (c = 4 ∧ x ≤ 60)
def msk (p : Nat → Bool) (lo : Nat) : Nat → Int32
  | 0 => 0
  | k + 1 => if p (lo + k) then msk p lo k ||| ((1 : Int32) <<< (Int32.ofNat (lo + k) &&& 31)) else msk p lo k ||| 0
theorem cn0 {p : Nat → Bool} : ∀ {k : Nat}, (cn k p = 0) ↔ ∀ i, i < k → p i = false
  | 0 => ⟨fun _ i h => absurd h (Nat.not_lt_zero _), fun _ => rfl⟩
  | k + 1 => by
    have ih := cn0 (p := p) (k := k)
    constructor
    · intro h i hi
      have h : cn k p + (if p k then 1 else 0) = 0 := h
      cases c : p k
      · by_cases e : i = k
        · subst e; exact c
        · exact ih.mp (by omega) i (by omega)
      · rw [c] at h; simp at h
    · intro h
      show cn k p + (if p k then 1 else 0) = 0
      rw [h k (by omega), ih.mpr (fun i hi => h i (by omega))]
      rfl
/-- the least that fits among lo .. lo + N - 1, or none -/
def leastAt (p : Nat → Bool) (lo a b : Nat) (L : Int32) : Prop := (L = (-1000000) ∧ ∀ i, a ≤ i → i < b → p i = false) ∨ (∃ j, a ≤ j ∧ j < b ∧ L = Int32.ofNat (lo + j) ∧ p j = true ∧ ∀ i, a ≤ i → i < j → p i = false)
theorem least_one {p : Nat → Bool} {lo a b : Nat} {L M : Int32} (h1 : leastAt p lo a b L) (h2 : leastAt p lo a b M) : L = M := by
  rcases h1 with ⟨h1, g1⟩ | ⟨j, a1, a2, h1, a3, g1⟩
  · rcases h2 with ⟨h2, g2⟩ | ⟨j, a1, a2, h2, a3, g2⟩
    · rw [h1, h2]
    · rw [g1 j a1 a2] at a3; cases a3
  · rcases h2 with ⟨h2, g2⟩ | ⟨j2, b1, b2, h2, b3, g2⟩
    · rw [g2 j a1 a2] at a3; cases a3
    · have : j = j2 := by
        rcases Nat.lt_trichotomy j j2 with h | h | h
        · rw [g2 j a1 h] at a3; cases a3
        · exact h
        · rw [g1 j2 b1 h] at b3; cases b3
      rw [h1, h2, this]
section WH
variable {ln : Nat → Option Int32} {lf : Nat → Nat → Option Nat} {dk : Nat → Option Nat} {hv tv v : HV} {w : Nat → Int32} {A B : AH}
theorem MR.ge {r : Nat} (hm : MR w r A) (hN : zN A ≤ 6) {d : Nat} (hd : d < zN A) (g : Nat) : MR (upd w (r + 31 + d) (Int32.ofNat g)) r (geA A d g) := by
  obtain ⟨m0, m1, m2, m3, m4, m5, m6, m7⟩ := hm
  refine ⟨?_, ?_, ?_, ?_, ?_, ?_, ?_, fun k hk => ?_⟩
  · rw [upd_ne (by omega)]; exact m0
  · rw [upd_ne (by omega)]; exact m1
  · rw [upd_ne (by omega)]; exact m2
  · rw [upd_ne (by omega)]; exact m3
  · rw [upd_ne (by omega)]; exact m4
  · rw [upd_ne (by omega)]; exact m5
  · rw [upd_ne (by omega)]; exact m6
  · have hk : k < zN A := hk
    rw [upd_ne (by omega), upd_ne (by omega), upd_ne (by omega), upd_ne (by omega), upd_ne (show r + 37 + k ≠ r + 31 + d by omega)]
    obtain ⟨b1, b2, b3, b4, b5, b6⟩ := m7 k hk
    refine ⟨b1, b2, b3, b4, ?_, b6⟩
    show _ = Int32.ofNat (nu (zG A) d g k)
    by_cases e : k = d
    · subst e; rw [upd_same, nu_same]
    · rw [upd_ne (by omega), nu_ne e]; exact b5
theorem MR.ki {r : Nat} (hm : MR w r A) (hN : zN A ≤ 6) {d : Nat} (hd : d < zN A) (q : Nat) : MR (upd w (r + 7 + d) (Int32.ofNat (q + 1))) r (kiA A d q) := by
  obtain ⟨m0, m1, m2, m3, m4, m5, m6, m7⟩ := hm
  refine ⟨?_, ?_, ?_, ?_, ?_, ?_, ?_, fun k hk => ?_⟩
  · rw [upd_ne (by omega)]; exact m0
  · rw [upd_ne (by omega)]; exact m1
  · rw [upd_ne (by omega)]; exact m2
  · rw [upd_ne (by omega)]; exact m3
  · rw [upd_ne (by omega)]; exact m4
  · rw [upd_ne (by omega)]; exact m5
  · rw [upd_ne (by omega)]; exact m6
  · have hk : k < zN A := hk
    rw [upd_ne (show r + 13 + k ≠ r + 7 + d by omega), upd_ne (show r + 19 + k ≠ r + 7 + d by omega), upd_ne (show r + 25 + k ≠ r + 7 + d by omega), upd_ne (show r + 31 + k ≠ r + 7 + d by omega), upd_ne (show r + 37 + k ≠ r + 7 + d by omega)]
    obtain ⟨b1, b2, b3, b4, b5, b6⟩ := m7 k hk
    refine ⟨?_, b2, b3, b4, b5, b6⟩
    show _ = Int32.ofNat (nu (zK A) d q k + 1)
    by_cases e : k = d
    · subst e; rw [upd_same, nu_same]
    · rw [upd_ne (by omega), nu_ne e]; exact b1
theorem SR.ge (hS : SR ln lf dk v A) (d g : Nat) : SR ln lf dk (SHE v (upd (HHE v) d (Int32.ofNat g))) (geA A d g) := by
  obtain ⟨e1, e2, e3, e4, e5, e6, e7, e8⟩ := hS
  refine ⟨e1, e2, e3, e4, e5, e6, e7, fun k hk => ?_⟩
  have hk : k < zN A := hk
  obtain ⟨b1, b2, b3, b4, b5, b6, b7⟩ := e8 k hk
  exact ⟨b1, b2, b3, b4, upn (fun k hk => (e8 k hk).2.2.2.2.1) k hk, b6, b7⟩
theorem SR.ki (hS : SR ln lf dk v A) (hN : zN A ≤ 6) (hn : Htf v = (-1000000)) {d q e : Nat} (hd : d < 6) (he : dk e = some q) : SR ln lf dk (Stk (Stf v (Int32.ofNat d)) (some e)) (kiA A d q) := by
  obtain ⟨e1, e2, e3, e4, e5, e6, e7, e8⟩ := hS
  refine ⟨e1, e2, e3, e4, e5, e6, e7, fun k hk => ?_⟩
  have hk : k < zN A := hk
  obtain ⟨b1, b2, b3, b4, b5, b6, x, hx, hkx⟩ := e8 k hk
  have k6 : k < 6 := by omega
  refine ⟨b1, b2, b3, b4, b5, b6, ?_⟩
  show ∃ y, fX1_dish ln lf dk (Hla v) (Int32.ofNat d) (some e) (Int32.ofNat k) = some y ∧ dk y = some (nu (zK A) d q k)
  have hx : fX1_dish ln lf dk (Hla v) (Htf v) (Htk v) (Int32.ofNat k) = some x := hx
  unfold fX1_dish at hx ⊢
  rw [hn, if_neg (nNone k6)] at hx
  by_cases c : k = d
  · subst c
    rw [if_pos rfl, nu_same]
    exact ⟨e, rfl, he⟩
  · rw [if_neg (one k (c := d) (by omega) (by omega) c), nu_ne c]
    exact ⟨x, hx, hkx⟩
theorem al_N (A : AH) (d c x : Nat) : zN (alA A d c x) = zN A := by
  unfold alA
  by_cases h0 : c = 0
  · rw [if_pos h0]; rfl
  · by_cases h1 : c = 1
    · rw [if_neg h0, if_pos h1]; rfl
    · by_cases h2 : c = 2
      · rw [if_neg h0, if_neg h1, if_pos h2]; rfl
      · rw [if_neg h0, if_neg h1, if_neg h2]; rfl
theorem al_M (A : AH) (d c x : Nat) : zM (alA A d c x) = zM A := by
  unfold alA
  by_cases h0 : c = 0
  · rw [if_pos h0]; rfl
  · by_cases h1 : c = 1
    · rw [if_neg h0, if_pos h1]; rfl
    · by_cases h2 : c = 2
      · rw [if_neg h0, if_neg h1, if_pos h2]; rfl
      · rw [if_neg h0, if_neg h1, if_neg h2]; rfl
theorem al_ok (ok : OK A) {d c x : Nat} (h : alP A c x) : OK (alA A d c x) := by
  rcases h with ⟨rfl, h1, h2⟩ | ⟨rfl, h1⟩ | ⟨rfl, h1⟩ | ⟨rfl, h1⟩
  · exact ok.ki (by omega)
  · exact ok.ca h1
  · exact ok.ge h1
  · exact ok.rp _
theorem alters_s (hL : LV ln lf dk hv w A) (tv : HV) {TK : Nat → Option Nat} (hTK : ∀ k, k < 5 → ∃ e, TK k = some e ∧ dk e = some k) {d c x : Nat} (hd : d < zN A) (h : alP A c x) : ∃ v', fX0_alters hv tv TK (Int32.ofNat d) (Int32.ofNat c) (Int32.ofNat x) = some v' ∧ SR ln lf dk v' (alA A d c x) := by
  have hN := hL.2.2.1.1
  obtain ⟨v1, t1, t2, t3⟩ := tried_eq hL tv
  unfold fX0_alters
  rw [t1, Option.bind_some]
  rcases h with ⟨rfl, h1, h2⟩ | ⟨rfl, h1⟩ | ⟨rfl, h1⟩ | ⟨rfl, h1⟩
  · obtain ⟨q, rfl⟩ : ∃ q, x = q + 1 := ⟨x - 1, by omega⟩
    obtain ⟨e, he1, he2⟩ := hTK q (by omega)
    rw [if_pos (show Int32.ofNat 0 = 0 from rfl), Option.bind_some, (mi1 ⟨q, by omega⟩).2, rdqn (k := q) (by omega) (by omega), he1, Option.bind_some, Option.bind_some, Option.bind_some]
    exact ⟨_, rfl, t2.ki hN t3 (by omega) he2⟩
  · rw [if_neg (show ¬ Int32.ofNat 1 = 0 by decide), if_pos (show Int32.ofNat 1 = 1 from rfl), Option.bind_some]
    exact ⟨_, rfl, t2.ca x⟩
  · rw [if_neg (show ¬ Int32.ofNat 2 = 0 by decide), if_neg (show ¬ Int32.ofNat 2 = 1 by decide), if_pos (show Int32.ofNat 2 = 2 from rfl), wrn (k := d) (by omega) (by omega), Option.bind_some, Option.bind_some]
    exact ⟨_, rfl, t2.ge d x⟩
  · rw [if_neg (show ¬ Int32.ofNat 4 = 0 by decide), if_neg (show ¬ Int32.ofNat 4 = 1 by decide), if_neg (show ¬ Int32.ofNat 4 = 2 by decide), Option.bind_some]
    exact ⟨_, rfl, t2.rp _⟩
def alJ (d c : Nat) : Nat := if c = 0 then 7 + d else if c = 1 then 4 else if c = 2 then 31 + d else 3
theorem alters_m (hL : LV ln lf dk hv w A) {u : Nat → Int32} (hu : FR w u 43) {d c x : Nat} (hd : d < zN A) (h : alP A c x) : ∃ u1 u2, fX9_tries u = some u1 ∧ wr u1 1247 (43 + Int32.ofNat (alJ d c)) (Int32.ofNat x) = some u2 ∧ MR u2 43 (alA A d c x) ∧ FR w u2 43 := by
  have ok := hL.2.2.1
  have hN := ok.1
  obtain ⟨w1, u1, u2, u3, u4⟩ := tries_eq ok.1 (hL.try hu).2.1
  have hJ : alJ d c < 43 := by
    unfold alJ
    split
    · omega
    · split
      · omega
      · split <;> omega
  refine ⟨w1, _, u1, wre (43 + alJ d c) (by rw [show (43 : Int32) = Int32.ofNat 43 from rfl, oadd]) (by omega) (by omega), ?_, FR.upd1 (c := alJ d c) (hu.trans u4) hJ⟩
  rcases h with ⟨rfl, h1, h2⟩ | ⟨rfl, h1⟩ | ⟨rfl, h1⟩ | ⟨rfl, h1⟩
  · obtain ⟨q, rfl⟩ : ∃ q, x = q + 1 := ⟨x - 1, by omega⟩
    rw [show 43 + alJ d 0 = 43 + 7 + d from by show 43 + (7 + d) = _; omega]
    exact u2.ki hN hd q
  · exact u2.ca hN x
  · rw [show 43 + alJ d 2 = 43 + 31 + d from by show 43 + (31 + d) = _; omega]
    exact u2.ge hN hd x
  · exact u2.rp hN _
theorem isSo_s (ok : OK B) (hM : zM B ≤ 999) (hS : SR ln lf dk v B) {d n : Nat} (hd : d < zN B) (hn : n ≤ 12) (RC : Nat → Int32) : ∃ v', fX0_isSo ln lf dk n v RC (Int32.ofNat d) = some ((if soB B d RC n then 1 else 0), v') := by
  have hN := ok.1
  obtain ⟨r, l1, l2⟩ := lp_inv (b := fX0_isSo_b5 ln lf dk n RC (Int32.ofNat d)) (s := (1, 0, v)) (fun (k : Nat) (s : Int32 × Int32 × HV) => s.1 = (if soB B d RC k then 1 else 0) ∧ s.2.1 = Int32.ofNat k ∧ SR ln lf dk s.2.2 (pan k B)) (fun (t : Int32 × HV) => t.1 = (if soB B d RC n then 1 else 0)) n (FUlt (by omega)) (fun k hk s hI => by
    obtain ⟨a, i, z⟩ := s
    obtain ⟨i1, i2, i3⟩ := hI
    dsimp only at i1 i2 i3
    subst i1; subst i2
    unfold fX0_isSo_b5
    dsimp only
    by_cases hlt : k < n
    · left
      obtain ⟨v2, g1, g2, -⟩ := pass_eq (ok.pan k) (by rw [pan_M]; omega) i3
      have hdk : d < zN (pan (k + 1) B) := by rw [pan_N]; exact hd
      rw [if_neg (nle (a := n) (b := k) (by omega) (by omega) hlt), g1, Option.bind_some, rdn (k := d) (by omega) (by omega), (g2.2.2.2.2.2.2.2 d hdk).2.2.2.2.1, Option.bind_some, rdn hlt (by omega), Option.bind_some, o1]
      refine ⟨hlt, ?_⟩
      by_cases c : Int32.ofNat (zG (pa (pan k B)) d) = RC k
      · rw [if_pos c]
        refine ⟨_, rfl, ?_, rfl, g2⟩
        show _ = if (soB B d RC k && decide (Int32.ofNat (zG (pa (pan k B)) d) = RC k)) then _ else _
        rw [decide_eq_true c]
        cases soB B d RC k <;> rfl
      · rw [if_neg c]
        refine ⟨_, rfl, ?_, rfl, g2⟩
        show _ = if (soB B d RC k && decide (Int32.ofNat (zG (pa (pan k B)) d) = RC k)) then _ else _
        rw [decide_eq_false c]
        cases soB B d RC k <;> rfl
    · right
      have : k = n := by omega
      subst this
      rw [if_pos (yle (a := k) (b := k) (by omega) (by omega) (Nat.le_refl _))]
      exact ⟨_, rfl, rfl⟩) ⟨rfl, rfl, hS⟩
  obtain ⟨a, z⟩ := r
  dsimp only at l2
  unfold fX0_isSo
  rw [l1, Option.bind_some]
  dsimp only
  rw [l2, gb01, Option.bind_some]
  exact ⟨_, rfl⟩
theorem isSo_m (ok : OK B) (hM : zM B ≤ 999) (hm : MR w 43 B) {d n off : Nat} (hd : d < zN B) (hn : n ≤ 12) (RC IT : Nat → Int32) (ho : off + n ≤ 320) (hI : ∀ k, k < n → IT (off + k) = RC k) : ∃ w', fX9_isSo w IT (Int32.ofNat d) (Int32.ofNat off) (Int32.ofNat n) = some ((if soB B d RC n then 1 else 0), w') ∧ FR w w' 43 := by
  have hN := ok.1
  obtain ⟨r, l1, l2, l3⟩ := lp_inv (b := fX9_isSo_b6 IT (Int32.ofNat d) (Int32.ofNat off) (Int32.ofNat n)) (s := (1, 0, w)) (fun (k : Nat) (s : Int32 × Int32 × (Nat → Int32)) => s.1 = (if soB B d RC k then 1 else 0) ∧ s.2.1 = Int32.ofNat k ∧ MR s.2.2 43 (pan k B) ∧ FR w s.2.2 43) (fun (t : Int32 × (Nat → Int32)) => t.1 = (if soB B d RC n then 1 else 0) ∧ FR w t.2 43) n (FUlt (by omega)) (fun k hk s hJ => by
    obtain ⟨a, i, z⟩ := s
    obtain ⟨i1, i2, i3, i4⟩ := hJ
    dsimp only at i1 i2 i3 i4
    subst i1; subst i2
    unfold fX9_isSo_b6
    dsimp only
    by_cases hlt : k < n
    · left
      obtain ⟨w2, g1, g2, g3⟩ := passes_eq (r := 43) (by omega) (ok.pan k) (by rw [pan_M]; omega) i3
      have hdk : d < zN (pan (k + 1) B) := by rw [pan_N]; exact hd
      rw [if_neg (nle (a := n) (b := k) (by omega) (by omega) hlt), show fX9_passes z 43 = some w2 from g1, Option.bind_some, o1]
      refine ⟨hlt, ?_⟩
      cases c0 : soB B d RC k
      · rw [if_pos (by simp)]
        refine ⟨_, rfl, ?_, rfl, g2, i4.trans g3⟩
        show _ = if (soB B d RC k && decide (Int32.ofNat (zG (pa (pan k B)) d) = RC k)) then _ else _
        rw [c0]; rfl
      · rw [if_neg (by simp), show rd w2 1247 (74 + Int32.ofNat d) = some (w2 (74 + d)) from rdc (c := 74) (by omega), show w2 (74 + d) = _ from (g2.2.2.2.2.2.2.2 d hdk).2.2.2.2.1, Option.bind_some, oadd, rdn (k := off + k) (by omega) (by omega), hI k hlt, Option.bind_some]
        by_cases c : Int32.ofNat (zG (pa (pan k B)) d) = RC k
        · rw [if_pos c]
          refine ⟨_, rfl, ?_, rfl, g2, i4.trans g3⟩
          show _ = if (soB B d RC k && decide (Int32.ofNat (zG (pa (pan k B)) d) = RC k)) then _ else _
          rw [decide_eq_true c, c0]; rfl
        · rw [if_neg c]
          refine ⟨_, rfl, ?_, rfl, g2, i4.trans g3⟩
          show _ = if (soB B d RC k && decide (Int32.ofNat (zG (pa (pan k B)) d) = RC k)) then _ else _
          rw [decide_eq_false c, c0]; rfl
    · right
      have : k = n := by omega
      subst this
      rw [if_pos (yle (a := k) (b := k) (by omega) (by omega) (Nat.le_refl _))]
      exact ⟨_, rfl, rfl, i4⟩) ⟨rfl, rfl, hm, fun i _ => rfl⟩
  obtain ⟨a, z⟩ := r
  dsimp only at l2 l3
  unfold fX9_isSo
  rw [l1, Option.bind_some]
  dsimp only
  rw [l2, gb01, Option.bind_some]
  exact ⟨_, rfl, l3⟩
/-- the set: both loops -/
theorem set_s (hL : LV ln lf dk hv w A) (tv : HV) {TK : Nat → Option Nat} (hTK : ∀ k, k < 5 → ∃ e, TK k = some e ∧ dk e = some k) {d c lo N n : Nat} (hd : d < zN A) (hn : n ≤ 12) (RC : Nat → Int32) (hc : c ≤ 1) (hN1 : 1 ≤ N) (hN : N ≤ 9) (hlo : Int32.ofNat lo = 1 - Int32.ofNat c) (hlo2 : lo ≤ 1)
    (hP : ∀ k, k < N → alP A c (lo + k)) (hj : (if Int32.ofNat c = 0 then some 5 else some (Hfl hv - 1) : Option Int32) = some (Int32.ofNat (lo + N - 1))) :
    ∃ v', fX0_setOf ln lf dk n hv tv TK RC (Int32.ofNat d) (Int32.ofNat c) = some (msk (fun x => soB (alA A d c x) d RC n) lo N, v') := by
  have ok := hL.2.2.1
  have hM := hL.2.2.2.2.1
  obtain ⟨r, l1, l2⟩ := lp_inv (b := fX0_setOf_b8 ln lf dk n hv TK RC (Int32.ofNat d) (Int32.ofNat c)) (s := (0, 1 - Int32.ofNat c, tv)) (fun (k : Nat) (s : Int32 × Int32 × HV) => s.1 = msk (fun x => soB (alA A d c x) d RC n) lo k ∧ s.2.1 = Int32.ofNat (lo + k)) (fun (t : Int32 × HV) => t.1 = msk (fun x => soB (alA A d c x) d RC n) lo N) N (FUlt (by omega)) (fun k hk s hI => by
    obtain ⟨a, i, z⟩ := s
    obtain ⟨i1, i2⟩ := hI
    dsimp only at i1 i2
    subst i1; subst i2
    unfold fX0_setOf_b8
    dsimp only
    rw [hj, Option.bind_some]
    by_cases hlt : k < N
    · left
      obtain ⟨v1, g1, g2⟩ := alters_s hL z hTK hd (hP k hlt)
      obtain ⟨v2, f1⟩ := isSo_s (al_ok ok (hP k hlt)) (by rw [al_M]; exact hM) g2 (d := d) (n := n) (by rw [al_N]; exact hd) hn RC
      rw [if_neg (show ¬ Int32.ofNat (lo + N - 1) < Int32.ofNat (lo + k) by intro h; have := (olt (by omega) (by omega)).mp h; omega), g1, Option.bind_some, f1, Option.bind_some, o1]
      dsimp only
      refine ⟨hlt, ?_⟩
      cases cc : soB (alA A d c (lo + k)) d RC n
      · rw [if_pos (by simp)]
        refine ⟨_, rfl, ?_, rfl⟩
        show _ = if (soB (alA A d c (lo + k)) d RC n) then _ else _
        rw [cc]; rfl
      · rw [if_neg (by simp)]
        refine ⟨_, rfl, ?_, rfl⟩
        show _ = if (soB (alA A d c (lo + k)) d RC n) then _ else _
        rw [cc]; rfl
    · right
      have : k = N := by omega
      subst this
      rw [if_pos ((olt (by omega) (by omega)).mpr (by omega))]
      exact ⟨_, rfl, rfl⟩) ⟨rfl, hlo.symm⟩
  obtain ⟨a, z⟩ := r
  dsimp only at l2
  unfold fX0_setOf
  rw [l1, Option.bind_some, l2]
  exact ⟨_, rfl⟩
theorem set_m (hL : LV ln lf dk hv w A) {d c lo N n R C : Nat} (hd : d < zN A) (hn : n ≤ 12) (RC IT : Nat → Int32) (hR : R < 8) (hC : C + n ≤ 40) (hIT : ∀ k, k < n → IT (40 * R + C + k) = RC k) (hc : c ≤ 1) (hN1 : 1 ≤ N) (hN : N ≤ 9) (hlo2 : lo ≤ 1)
    (hP : ∀ k, k < N → alP A c (lo + k)) : ∃ w', lp (fX9_who_b117 IT (Int32.ofNat d) (Int32.ofNat c) (Int32.ofNat R) (Int32.ofNat C) (Int32.ofNat n) (Int32.ofNat (lo + N - 1))) FU (0, Int32.ofNat lo, w) = some (msk (fun x => soB (alA A d c x) d RC n) lo N, w') ∧ FR w w' 43 := by
  have ok := hL.2.2.1
  have hM := hL.2.2.2.2.1
  have hoff : (40 * Int32.ofNat R) + Int32.ofNat C = Int32.ofNat (40 * R + C) := by rw [show (40 : Int32) = Int32.ofNat 40 from rfl, ← Int32.ofNat_mul, oadd]
  have hJ : (if Int32.ofNat c = 0 then some (7 + Int32.ofNat d) else some 4 : Option Int32) = some (Int32.ofNat (alJ d c)) := by
    rcases (show c = 0 ∨ c = 1 by omega) with rfl | rfl
    · rw [if_pos (show Int32.ofNat 0 = 0 from rfl), show (7 : Int32) = Int32.ofNat 7 from rfl, oadd]; rfl
    · rw [if_neg (show ¬ Int32.ofNat 1 = 0 by decide)]; rfl
  obtain ⟨r, l1, l2, l3⟩ := lp_inv (b := fX9_who_b117 IT (Int32.ofNat d) (Int32.ofNat c) (Int32.ofNat R) (Int32.ofNat C) (Int32.ofNat n) (Int32.ofNat (lo + N - 1))) (s := (0, Int32.ofNat lo, w)) (fun (k : Nat) (s : Int32 × Int32 × (Nat → Int32)) => s.1 = msk (fun x => soB (alA A d c x) d RC n) lo k ∧ s.2.1 = Int32.ofNat (lo + k) ∧ FR w s.2.2 43) (fun (t : Int32 × (Nat → Int32)) => t.1 = msk (fun x => soB (alA A d c x) d RC n) lo N ∧ FR w t.2 43) N (FUlt (by omega)) (fun k hk s hI => by
    obtain ⟨a, i, z⟩ := s
    obtain ⟨i1, i2, i3⟩ := hI
    dsimp only at i1 i2 i3
    subst i1; subst i2
    unfold fX9_who_b117
    dsimp only
    by_cases hlt : k < N
    · left
      obtain ⟨u1, u2, g1, g2, g3, g4⟩ := alters_m hL i3 hd (hP k hlt)
      obtain ⟨w2, f1, f2⟩ := isSo_m (al_ok ok (hP k hlt)) (by rw [al_M]; exact hM) g3 (d := d) (n := n) (off := 40 * R + C) (by rw [al_N]; exact hd) hn RC IT (by omega) hIT
      rw [if_neg (show ¬ Int32.ofNat (lo + N - 1) < Int32.ofNat (lo + k) by intro h; have := (olt (by omega) (by omega)).mp h; omega), g1, Option.bind_some, hJ, Option.bind_some, g2, Option.bind_some, hoff, f1, Option.bind_some, o1]
      dsimp only
      refine ⟨hlt, ?_⟩
      cases cc : soB (alA A d c (lo + k)) d RC n
      · rw [if_pos (by simp)]
        refine ⟨_, rfl, ?_, rfl, g4.trans f2⟩
        show _ = if (soB (alA A d c (lo + k)) d RC n) then _ else _
        rw [cc]; rfl
      · rw [if_neg (by simp)]
        refine ⟨_, rfl, ?_, rfl, g4.trans f2⟩
        show _ = if (soB (alA A d c (lo + k)) d RC n) then _ else _
        rw [cc]; rfl
    · right
      have : k = N := by omega
      subst this
      rw [if_pos ((olt (by omega) (by omega)).mpr (by omega))]
      exact ⟨_, rfl, rfl, i3⟩) ⟨rfl, rfl, fun i _ => rfl⟩
  obtain ⟨a, z⟩ := r
  dsimp only at l2 l3
  rw [l1, l2]
  exact ⟨_, rfl, l3⟩
/-- the number: the system counts down, the reference up -/
theorem num_s (hL : LV ln lf dk hv w A) (tv : HV) {TK : Nat → Option Nat} (hTK : ∀ k, k < 5 → ∃ e, TK k = some e ∧ dk e = some k) {d c lo N n : Nat} (hd : d < zN A) (hn : n ≤ 12) (RC : Nat → Int32) (j1 : Int32) (hN1 : 1 ≤ N) (hN : N ≤ 61) (hlo2 : lo ≤ 1)
    (hP : ∀ k, k < N → alP A c (lo + k)) (h4 : (if j1 = 0 then some 1 else some 0 : Option Int32) = some (Int32.ofNat lo)) (h5 : (if j1 = 0 then some 4 else some 2 : Option Int32) = some (Int32.ofNat c)) :
    ∃ L v', lp (fX0_numberOf_b34 ln lf dk n hv TK RC (Int32.ofNat d) j1) FU (0, (-1000000), Int32.ofNat (lo + N) - 1, tv) = some (Int32.ofNat (cn N (fun i => soB (alA A d c (lo + i)) d RC n)), L, v') ∧ leastAt (fun i => soB (alA A d c (lo + i)) d RC n) lo 0 N L := by
  have ok := hL.2.2.1
  have hM := hL.2.2.2.2.1
  obtain ⟨p, hp⟩ : ∃ p : Nat → Bool, p = fun i => soB (alA A d c (lo + i)) d RC n := ⟨_, rfl⟩
  have hpi : ∀ i, p i = soB (alA A d c (lo + i)) d RC n := fun i => by rw [hp]
  rw [← hp]
  have hdec : ∀ m : Nat, m < 100 → Int32.ofNat (m + 1) - 1 = Int32.ofNat m ∧ Int32.ofNat (m + 1) - 1 + (-1) = Int32.ofNat m - 1 := by
    intro m _
    have h : Int32.ofNat (m + 1) - 1 = Int32.ofNat m := by rw [← o1, Int32.add_sub_cancel]
    exact ⟨h, by rw [h]; exact (Int32.sub_eq_add_neg _ _).symm⟩
  obtain ⟨r, l1, l2, l3⟩ := lp_inv (b := fX0_numberOf_b34 ln lf dk n hv TK RC (Int32.ofNat d) j1) (s := (0, (-1000000), Int32.ofNat (lo + N) - 1, tv)) (fun (k : Nat) (s : Int32 × Int32 × Int32 × HV) => (∃ a : Nat, s.1 = Int32.ofNat a ∧ a + cn (N - k) p = cn N p) ∧ leastAt p lo (N - k) N s.2.1 ∧ s.2.2.1 = Int32.ofNat (lo + (N - k)) - 1) (fun (t : Int32 × Int32 × HV) => t.1 = Int32.ofNat (cn N p) ∧ leastAt p lo 0 N t.2.1) N (FUlt (by omega)) (fun k hk s hI => by
    obtain ⟨a, i, z, y⟩ := s
    obtain ⟨⟨a0, i1, i1'⟩, i2, i3⟩ := hI
    dsimp only at i1 i2 i3
    subst i1; subst i3
    unfold fX0_numberOf_b34
    dsimp only
    rw [h4, h5, Option.bind_some]
    by_cases hlt : k < N
    · left
      obtain ⟨m, hm⟩ : ∃ m, N - k = m + 1 := ⟨N - k - 1, by omega⟩
      have hm2 : N - (k + 1) = m := by omega
      obtain ⟨v1, g1, g2⟩ := alters_s hL y hTK hd (hP m (by omega))
      obtain ⟨v2, f1⟩ := isSo_s (al_ok ok (hP m (by omega))) (by rw [al_M]; exact hM) g2 (d := d) (n := n) (by rw [al_N]; exact hd) hn RC
      rw [hm] at i1' i2 ⊢
      rw [hm2]
      have hx := hdec (lo + m) (by omega)
      have hcn : cn (m + 1) p = cn m p + (if p m then 1 else 0) := rfl
      rw [show lo + (m + 1) = (lo + m) + 1 by omega, hx.2, hx.1, if_neg (show ¬ Int32.ofNat (lo + m) < Int32.ofNat lo by intro h; have := (olt (by omega) (by omega)).mp h; omega), Option.bind_some, g1, Option.bind_some, f1, Option.bind_some]
      dsimp only
      refine ⟨hlt, ?_⟩
      cases cc : soB (alA A d c (lo + m)) d RC n
      · have hpm : p m = false := by rw [hpi]; exact cc
        rw [if_pos (by simp), Option.bind_some]
        refine ⟨_, rfl, ⟨a0, rfl, ?_⟩, ?_, ?_⟩
        · rw [hcn, hpm] at i1'; simpa using i1'
        · rcases i2 with ⟨q1, q2⟩ | ⟨j, q1, q2, q3, q4, q5⟩
          · exact Or.inl ⟨q1, fun i h1 h2 => by by_cases e : i = m; · subst e; exact hpm
                                                · exact q2 i (by omega) h2⟩
          · exact Or.inr ⟨j, by omega, q2, q3, q4, fun i h1 h2 => by by_cases e : i = m; · subst e; exact hpm
                                                                     · exact q5 i (by omega) h2⟩
        · rfl
      · have hpm : p m = true := by rw [hpi]; exact cc
        rw [if_neg (by simp), Option.bind_some, o1]
        refine ⟨_, rfl, ⟨a0 + 1, rfl, ?_⟩, ?_, ?_⟩
        · rw [hcn, hpm] at i1'
          have : a0 + (cn m p + 1) = cn N p := i1'
          omega
        · exact Or.inr ⟨m, Nat.le_refl _, by omega, rfl, hpm, fun i h1 h2 => by omega⟩
        · rfl
    · right
      have : k = N := by omega
      subst this
      rw [Nat.sub_self] at i1' i2 ⊢
      have h1 : Int32.ofNat (lo + 0) - 1 < Int32.ofNat lo := by
        rcases (show lo = 0 ∨ lo = 1 by omega) with rfl | rfl <;> decide
      rw [if_pos h1]
      refine ⟨_, rfl, ?_, i2⟩
      have : a0 + 0 = cn k p := i1'
      dsimp only
      rw [← this]; rfl) ⟨⟨0, rfl, by simp⟩, Or.inl ⟨rfl, fun i h1 h2 => by omega⟩, rfl⟩
  obtain ⟨a, b, z⟩ := r
  dsimp only at l2 l3
  rw [l1, l2]
  exact ⟨_, _, rfl, l3⟩
theorem num_m (hL : LV ln lf dk hv w A) {d c lo N n R C : Nat} (hd : d < zN A) (hn : n ≤ 12) (RC IT : Nat → Int32) (hR : R < 8) (hC : C + n ≤ 40) (hIT : ∀ k, k < n → IT (40 * R + C + k) = RC k) (p2 : Int32) (hN1 : 1 ≤ N) (hN : N ≤ 61) (hlo2 : lo ≤ 1)
    (hP : ∀ k, k < N → alP A c (lo + k)) (hJ : (if 4 ≤ p2 then some 3 else some (31 + Int32.ofNat d) : Option Int32) = some (Int32.ofNat (alJ d c))) :
    ∃ L w', lp (fX9_who_b217 IT (Int32.ofNat d) p2 (Int32.ofNat R) (Int32.ofNat C) (Int32.ofNat n) (Int32.ofNat (lo + N - 1))) FU (0, (-1000000), Int32.ofNat lo, w) = some (Int32.ofNat (cn N (fun i => soB (alA A d c (lo + i)) d RC n)), L, w') ∧ leastAt (fun i => soB (alA A d c (lo + i)) d RC n) lo 0 N L ∧ FR w w' 43 := by
  have ok := hL.2.2.1
  have hM := hL.2.2.2.2.1
  have hoff : (40 * Int32.ofNat R) + Int32.ofNat C = Int32.ofNat (40 * R + C) := by rw [show (40 : Int32) = Int32.ofNat 40 from rfl, ← Int32.ofNat_mul, oadd]
  obtain ⟨p, hp⟩ : ∃ p : Nat → Bool, p = fun i => soB (alA A d c (lo + i)) d RC n := ⟨_, rfl⟩
  have hpi : ∀ i, p i = soB (alA A d c (lo + i)) d RC n := fun i => by rw [hp]
  rw [← hp]
  obtain ⟨r, l1, l2, l3, l4⟩ := lp_inv (b := fX9_who_b217 IT (Int32.ofNat d) p2 (Int32.ofNat R) (Int32.ofNat C) (Int32.ofNat n) (Int32.ofNat (lo + N - 1))) (s := (0, (-1000000), Int32.ofNat lo, w)) (fun (k : Nat) (s : Int32 × Int32 × Int32 × (Nat → Int32)) => s.1 = Int32.ofNat (cn k p) ∧ leastAt p lo 0 k s.2.1 ∧ s.2.2.1 = Int32.ofNat (lo + k) ∧ FR w s.2.2.2 43) (fun (t : Int32 × Int32 × (Nat → Int32)) => t.1 = Int32.ofNat (cn N p) ∧ leastAt p lo 0 N t.2.1 ∧ FR w t.2.2 43) N (FUlt (by omega)) (fun k hk s hI => by
    obtain ⟨a, i, z, y⟩ := s
    obtain ⟨i1, i2, i3, i4⟩ := hI
    dsimp only at i1 i2 i3 i4
    subst i1; subst i3
    unfold fX9_who_b217
    dsimp only
    by_cases hlt : k < N
    · left
      obtain ⟨u1, u2, g1, g2, g3, g4⟩ := alters_m hL i4 hd (hP k hlt)
      obtain ⟨w2, f1, f2⟩ := isSo_m (al_ok ok (hP k hlt)) (by rw [al_M]; exact hM) g3 (d := d) (n := n) (off := 40 * R + C) (by rw [al_N]; exact hd) hn RC IT (by omega) hIT
      have hck : cn k p ≤ k := cn_le k
      have hcn : cn (k + 1) p = cn k p + (if p k then 1 else 0) := rfl
      have hz : (Int32.ofNat (cn k p) = 0) = (cn k p = 0) := q_eq (c := 0) (by omega) (by omega)
      rw [if_neg (show ¬ Int32.ofNat (lo + N - 1) < Int32.ofNat (lo + k) by intro h; have := (olt (by omega) (by omega)).mp h; omega), g1, Option.bind_some, hJ, Option.bind_some, g2, Option.bind_some, hoff, f1, Option.bind_some]
      dsimp only
      refine ⟨hlt, ?_⟩
      cases cc : soB (alA A d c (lo + k)) d RC n
      · have hpm : p k = false := by rw [hpi]; exact cc
        rw [if_pos (by simp), o1]
        refine ⟨_, rfl, ?_, ?_, rfl, g4.trans f2⟩
        · rw [hcn, hpm]; rfl
        · rcases i2 with ⟨q1, q2⟩ | ⟨j, q1, q2, q3, q4, q5⟩
          · exact Or.inl ⟨q1, fun i h1 h2 => by by_cases e : i = k; · subst e; exact hpm
                                                · exact q2 i h1 (by omega)⟩
          · exact Or.inr ⟨j, q1, by omega, q3, q4, q5⟩
      · have hpm : p k = true := by rw [hpi]; exact cc
        rw [if_neg (by simp), o1, o1]
        by_cases h0 : cn k p = 0
        · rw [if_pos (Eq.mpr hz h0)]
          refine ⟨_, rfl, ?_, ?_, rfl, g4.trans f2⟩
          · rw [hcn, hpm]; rfl
          · exact Or.inr ⟨k, Nat.zero_le _, by omega, rfl, hpm, fun i _ h2 => cn0.mp h0 i h2⟩
        · rw [if_neg (fun h => h0 (Eq.mp hz h))]
          refine ⟨_, rfl, ?_, ?_, rfl, g4.trans f2⟩
          · rw [hcn, hpm]; rfl
          · rcases i2 with ⟨q1, q2⟩ | ⟨j, q1, q2, q3, q4, q5⟩
            · exact absurd (cn0.mpr (fun i hi => q2 i (Nat.zero_le _) hi)) h0
            · exact Or.inr ⟨j, q1, by omega, q3, q4, q5⟩
    · right
      have : k = N := by omega
      subst this
      rw [if_pos ((olt (by omega) (by omega)).mpr (by omega))]
      exact ⟨_, rfl, rfl, i2, i4⟩) ⟨rfl, Or.inl ⟨rfl, fun i h1 h2 => by omega⟩, rfl, fun i _ => rfl⟩
  obtain ⟨a, b, z⟩ := r
  dsimp only at l2 l3 l4
  rw [l1, l2]
  exact ⟨_, _, rfl, l3, l4⟩
end WH
