/-! THE PLAIN LAW 9: site, need, dish, car, kind -/
set_option maxRecDepth 100000
def caA (A : AH) (c : Nat) : AH := mkH (zN A) (zF A) c (zY A) (zM A) (zro A) (zrp A) (zK A) (zH A) (zA A) (zT A) (zX A) (zG A) (zQ A)
def roA (A : AH) (x : Int32) : AH := mkH (zN A) (zF A) (zC A) (zY A) (zM A) x (zrp A) (zK A) (zH A) (zA A) (zT A) (zX A) (zG A) (zQ A)
def rpA (A : AH) (x : Int32) : AH := mkH (zN A) (zF A) (zC A) (zY A) (zM A) (zro A) x (zK A) (zH A) (zA A) (zT A) (zX A) (zG A) (zQ A)
def geA (A : AH) (d g : Nat) : AH := mkH (zN A) (zF A) (zC A) (zY A) (zM A) (zro A) (zrp A) (zK A) (zH A) (zA A) (zT A) (zX A) (nu (zG A) d g) (zQ A)
def kiA (A : AH) (d k : Nat) : AH := mkH (zN A) (zF A) (zC A) (zY A) (zM A) (zro A) (zrp A) (nu (zK A) d k) (zH A) (zA A) (zT A) (zX A) (zG A) (zQ A)
section ST
variable {ln : Nat → Option Int32} {lf : Nat → Nat → Option Nat} {dk : Nat → Option Nat} {v : HV} {w : Nat → Int32} {A : AH}
theorem OK.ca (ok : OK A) {c : Nat} (h : c < zF A) : OK (caA A c) := ⟨ok.1, ok.2.1, h, ok.2.2.2.1, ok.2.2.2.2⟩
theorem OK.ro (ok : OK A) (x : Int32) : OK (roA A x) := ok
theorem OK.rp (ok : OK A) (x : Int32) : OK (rpA A x) := ok
theorem OK.ge (ok : OK A) {d g : Nat} (hg : g ≤ 60) : OK (geA A d g) := by
  obtain ⟨k1, k2, k3, k4, k6⟩ := ok
  refine ⟨k1, k2, k3, k4, fun k hk => ?_⟩
  obtain ⟨b1, b2, b3, b4, b5, b6, b7, b8⟩ := k6 k hk
  refine ⟨b1, b2, b3, b4, b5, b6, ?_, b8⟩
  show nu (zG A) d g k ≤ 60
  unfold nu; split <;> omega
theorem OK.ki (ok : OK A) {d q : Nat} (hq : q < 5) : OK (kiA A d q) := by
  obtain ⟨k1, k2, k3, k4, k6⟩ := ok
  refine ⟨k1, k2, k3, k4, fun k hk => ?_⟩
  obtain ⟨b1, b2, b3, b4, b5, b6, b7, b8⟩ := k6 k hk
  refine ⟨?_, b2, b3, b4, b5, b6, b7, b8⟩
  show nu (zK A) d q k < 5
  unfold nu; split <;> omega
theorem SR.ca (hS : SR ln lf dk v A) (c : Nat) : SR ln lf dk (Sca v (Int32.ofNat c)) (caA A c) := by
  obtain ⟨e1, e2, e3, e4, e5, e6, e7, e8⟩ := hS
  exact ⟨e1, e2, e3, e4, rfl, e6, e7, e8⟩
theorem SR.ro (hS : SR ln lf dk v A) (x : Int32) : SR ln lf dk (Sro v x) (roA A x) := by
  obtain ⟨e1, e2, e3, e4, e5, e6, e7, e8⟩ := hS
  exact ⟨e1, e2, rfl, e4, e5, e6, e7, e8⟩
theorem SR.rp (hS : SR ln lf dk v A) (x : Int32) : SR ln lf dk (Srp v x) (rpA A x) := by
  obtain ⟨e1, e2, e3, e4, e5, e6, e7, e8⟩ := hS
  exact ⟨e1, e2, e3, rfl, e5, e6, e7, e8⟩
/-- one of the row's first numbers is written -/
theorem MR.put {r c : Nat} {x : Int32} {B : AH} (hm : MR w r A) (hc : c < 7) (hB : ∀ i, i < 7 → upd w (r + c) x (r + i) = w (r + i) ∨ i = c) (h : MR (upd w (r + c) x) r B) : MR (upd w (r + c) x) r B := h
theorem MR.ca {r : Nat} (hm : MR w r A) (hN : zN A ≤ 6) (c : Nat) : MR (upd w (r + 4) (Int32.ofNat c)) r (caA A c) := by
  obtain ⟨m0, m1, m2, m3, m4, m5, m6, m7⟩ := hm
  refine ⟨?_, ?_, ?_, ?_, ?_, ?_, ?_, fun k hk => ?_⟩
  · rw [upd_ne (by omega)]; exact m0
  · rw [upd_ne (by omega)]; exact m1
  · rw [upd_ne (by omega)]; exact m2
  · rw [upd_ne (by omega)]; exact m3
  · rw [upd_same]; rfl
  · rw [upd_ne (by omega)]; exact m5
  · rw [upd_ne (by omega)]; exact m6
  · rw [upd_ne (by omega), upd_ne (by omega), upd_ne (by omega), upd_ne (by omega), upd_ne (by omega), upd_ne (by omega)]
    exact m7 k hk
theorem MR.ro {r : Nat} (hm : MR w r A) (hN : zN A ≤ 6) (x : Int32) : MR (upd w (r + 2) x) r (roA A x) := by
  obtain ⟨m0, m1, m2, m3, m4, m5, m6, m7⟩ := hm
  refine ⟨?_, ?_, ?_, ?_, ?_, ?_, ?_, fun k hk => ?_⟩
  · rw [upd_ne (by omega)]; exact m0
  · rw [upd_ne (by omega)]; exact m1
  · rw [upd_same]; rfl
  · rw [upd_ne (by omega)]; exact m3
  · rw [upd_ne (by omega)]; exact m4
  · rw [upd_ne (by omega)]; exact m5
  · rw [upd_ne (by omega)]; exact m6
  · rw [upd_ne (by omega), upd_ne (by omega), upd_ne (by omega), upd_ne (by omega), upd_ne (by omega), upd_ne (by omega)]
    exact m7 k hk
theorem MR.rp {r : Nat} (hm : MR w r A) (hN : zN A ≤ 6) (x : Int32) : MR (upd w (r + 3) x) r (rpA A x) := by
  obtain ⟨m0, m1, m2, m3, m4, m5, m6, m7⟩ := hm
  refine ⟨?_, ?_, ?_, ?_, ?_, ?_, ?_, fun k hk => ?_⟩
  · rw [upd_ne (by omega)]; exact m0
  · rw [upd_ne (by omega)]; exact m1
  · rw [upd_ne (by omega)]; exact m2
  · rw [upd_same]; rfl
  · rw [upd_ne (by omega)]; exact m4
  · rw [upd_ne (by omega)]; exact m5
  · rw [upd_ne (by omega)]; exact m6
  · rw [upd_ne (by omega), upd_ne (by omega), upd_ne (by omega), upd_ne (by omega), upd_ne (by omega), upd_ne (by omega)]
    exact m7 k hk
theorem FR.upd1 {w w' : Nat → Int32} {r c : Nat} {x : Int32} (h : FR w w' r) (hc : c < 43) : FR w (upd w' (r + c) x) r := fun i hi => by rw [upd_ne (by omega)]; exact h i hi
end ST
section A3
variable {ln : Nat → Option Int32} {lf : Nat → Nat → Option Nat} {dk : Nat → Option Nat} {hv tv v : HV} {w : Nat → Int32} {A : AH}
theorem LV.try (hL : LV ln lf dk hv w A) {w' : Nat → Int32} (h : FR w w' 43) : LV ln lf dk hv w' A := ⟨hL.1, hL.2.1.keep hL.2.2.1.1 (fun i _ hi => h i (by omega)), hL.2.2⟩
theorem fnb_len (A : AH) : fnb A = bs (zN A) (fun k => zH A k == 2 && gd (zK A k) (zG A k)) := rfl
theorem mx_eq (q m : Int32) : (if m < q then q else m) = if q ≤ m then m else q := by
  by_cases h : q ≤ m
  · rw [if_pos h, if_neg (Int32.not_lt.mpr h)]
  · rw [if_neg h, if_pos (Int32.not_le.mp h)]
theorem act_site (hT : TV ln lf dk hv w) (tv : HV) (p1 p2 : Int32) : ∃ ans tv' w', fX0_site ln lf dk hv tv p1 p2 = some (ans, tv') ∧ fX9_site w p1 p2 = some (ans, w') ∧ FR w w' 43 := by
  rcases hT with hE | ⟨A, hL⟩
  · obtain ⟨h1, h2⟩ := noHouse hE
    refine ⟨-1000002, tv, w, ?_, ?_, fun i _ => rfl⟩
    · unfold fX0_site
      rw [h1, Option.bind_some, if_pos rfl]
    · unfold fX9_site
      rw [h2, Option.bind_some, if_pos rfl]
  · obtain ⟨h1, h2⟩ := yesHouse hL
    have ok := hL.2.2.1
    have hM := hL.2.2.2.2.1
    unfold fX0_site fX9_site
    rw [h1, h2, Option.bind_some, Option.bind_some, if_neg (by decide), if_neg (by decide), isNear_s, in40, Option.bind_some, Option.bind_some, g01, g01]
    by_cases c2 : 1 ≤ p1.toInt ∧ p1.toInt ≤ 40
    · rw [if_pos c2, if_pos c2, isHalf_s, in01, Option.bind_some, Option.bind_some, g01, g01]
      by_cases c3 : 0 ≤ p2.toInt ∧ p2.toInt ≤ 1
      · rw [if_pos c3, if_pos c3]
        obtain ⟨n, rfl, hn1, hn2⟩ := i32_of (show 0 ≤ p1.toInt by omega)
        obtain ⟨r, r', x1, x2, x3, x4, x5⟩ := lp_sim (b := fX0_site_b35 ln lf dk hv (Int32.ofNat n)) (b' := fX9_site_b43 (Int32.ofNat n)) (s := (0, -1, 0, tv)) (s' := (0, -1, 0, w)) (fun (k : Nat) (s : Int32 × Int32 × Int32 × HV) (s' : Int32 × Int32 × Int32 × (Nat → Int32)) => s.1 = s'.1 ∧ s.2.1 = s'.2.1 ∧ s.2.2.1 = Int32.ofNat k ∧ s'.2.2.1 = Int32.ofNat k ∧ FR w s'.2.2.2 43) (fun (r : Int32 × Int32 × HV) (r' : Int32 × Int32 × (Nat → Int32)) => r.1 = r'.1 ∧ r.2.1 = r'.2.1 ∧ FR w r'.2.2 43) (zF A) (FUlt (by have := ok.2.1; omega)) (fun k hk s s' hI => by
          obtain ⟨be, mo, i, u⟩ := s
          obtain ⟨be', mo', i', x⟩ := s'
          obtain ⟨h1, h2, h3, h4, h5⟩ := hI
          dsimp only at h1 h2 h3 h4 h5
          subst h1; subst h2; subst h3; subst h4
          have hLx := hL.try h5
          have hF := ok.2.1
          have e1 : x 1 = Int32.ofNat (zF A) := hLx.2.1.2.1
          by_cases hlt : k < zF A
          · left
            obtain ⟨v1, t1, t2, t3⟩ := tried_eq hLx u
            obtain ⟨w1, u1, u2, u3, u4⟩ := tries_eq ok.1 hLx.2.1
            have okc := ok.ca hlt
            obtain ⟨v2, s1, s2, -⟩ := goOn_eq okc (t2.ca k) (n := n) (by omega) (show zM A + n < 1000000 by omega)
            obtain ⟨w2, y1, y2, y3⟩ := goesOn_eq okc (u2.ca ok.1 k) (n := n) (by omega) (show zM A + n < 1000000 by omega)
            have hf1 := fine_eq (okc.pan n) s2
            have hf2 : fX9_fineOf w2 43 = _ := fineOf_eq (r := 43) (by omega) (okc.pan n) y2
            have hb := bits_bs (okc.pan n).1 (fun j => zH (pan n (caA A k)) j == 2 && gd (zK (pan n (caA A k)) j) (zG (pan n (caA A k)) j))
            have ho := ones_bs (okc.pan n).1 (fun j => zH (pan n (caA A k)) j == 2 && gd (zK (pan n (caA A k)) j) (zG (pan n (caA A k)) j))
            rw [← fnb_len] at hb ho
            generalize Int32.ofNat (cn (zN (pan n (caA A k))) (fun j => zH (pan n (caA A k)) j == 2 && gd (zK (pan n (caA A k)) j) (zG (pan n (caA A k)) j))) = q at hb ho
            refine ⟨hlt, (if q ≤ mo then be else Int32.ofNat k, if q ≤ mo then mo else q, Int32.ofNat (k + 1), v2), (if q ≤ mo then be else Int32.ofNat k, if q ≤ mo then mo else q, Int32.ofNat (k + 1), w2), ?_, ?_, rfl, rfl, rfl, rfl, (h5.trans (u4.upd1 (c := 4) (by omega))).trans y3⟩
            · unfold fX0_site_b35
              dsimp only
              rw [hL.1.2.1, if_neg (nle (a := zF A) (b := k) (by omega) (by omega) hlt), t1, Option.bind_some, Option.bind_some, s1, Option.bind_some, hf1, Option.bind_some, hb, Option.bind_some, mx_eq, o1]
              by_cases c : q ≤ mo
              · simp only [if_pos c, Option.bind_some]
              · simp only [if_neg c, Option.bind_some]
            · unfold fX9_site_b43
              dsimp only
              rw [show rd x 1247 1 = some (x 1) from rdn (k := 1) (by omega) (by omega), e1, Option.bind_some, if_neg (nle (a := zF A) (b := k) (by omega) (by omega) hlt), u1, Option.bind_some, show wr w1 1247 47 (Int32.ofNat k) = some (upd w1 (43 + 4) (Int32.ofNat k)) from wrn (k := 47) (by omega) (by omega), Option.bind_some, y1, Option.bind_some, hf2, Option.bind_some, ho, Option.bind_some, o1]
              by_cases c : q ≤ mo
              · simp only [if_pos c, Option.bind_some]
              · simp only [if_neg c, Option.bind_some]
          · right
            have : k = zF A := by omega
            subst this
            refine ⟨(be, mo, u), (be, mo, x), ?_, ?_, rfl, rfl, h5⟩
            · unfold fX0_site_b35
              dsimp only
              rw [hL.1.2.1, if_pos (yle (a := zF A) (b := zF A) (by omega) (by omega) (Nat.le_refl _))]
            · unfold fX9_site_b43
              dsimp only
              rw [show rd x 1247 1 = some (x 1) from rdn (k := 1) (by omega) (by omega), e1, Option.bind_some, if_pos (yle (a := zF A) (b := zF A) (by omega) (by omega) (Nat.le_refl _))]) ⟨rfl, rfl, rfl, rfl, fun i _ => rfl⟩
        rw [x1, x2, Option.bind_some, Option.bind_some]
        by_cases q0 : p2 = 0
        · rw [if_pos q0, if_pos q0, x3]; exact ⟨_, _, _, rfl, rfl, x5⟩
        · rw [if_neg q0, if_neg q0, x4]; exact ⟨_, _, _, rfl, rfl, x5⟩
      · rw [if_neg c3, if_neg c3]; exact ⟨_, _, _, rfl, rfl, fun i _ => rfl⟩
    · rw [if_neg c2, if_neg c2]; exact ⟨_, _, _, rfl, rfl, fun i _ => rfl⟩
theorem p01 {p : Int32} (h : 0 ≤ p.toInt ∧ p.toInt ≤ 1) : p = 0 ∨ p = 1 := by
  obtain ⟨n, rfl, h1, h2⟩ := i32_of h.1
  rcases (show n = 0 ∨ n = 1 by omega) with rfl | rfl
  · exact Or.inl rfl
  · exact Or.inr rfl
theorem act_need (hT : TV ln lf dk hv w) (tv : HV) (p1 p2 : Int32) : ∃ ans tv' w', fX0_need ln lf dk hv tv p1 p2 = some (ans, tv') ∧ fX9_need w p1 p2 = some (ans, w') ∧ FR w w' 43 := by
  rcases hT with hE | ⟨A, hL⟩
  · obtain ⟨h1, h2⟩ := noHouse hE
    refine ⟨-1000002, tv, w, ?_, ?_, fun i _ => rfl⟩
    · unfold fX0_need
      rw [h1, Option.bind_some, if_pos rfl]
    · unfold fX9_need
      rw [h2, Option.bind_some, if_pos rfl]
  · obtain ⟨h1, h2⟩ := yesHouse hL
    have ok := hL.2.2.1
    have hM := hL.2.2.2.2.1
    unfold fX0_need fX9_need
    rw [h1, h2, Option.bind_some, Option.bind_some, if_neg (by decide), if_neg (by decide), isNear_s, in40, Option.bind_some, Option.bind_some, g01, g01]
    by_cases c2 : 1 ≤ p1.toInt ∧ p1.toInt ≤ 40
    · rw [if_pos c2, if_pos c2, isHalf_s, in01, Option.bind_some, Option.bind_some, g01, g01]
      by_cases c3 : 0 ≤ p2.toInt ∧ p2.toInt ≤ 1
      · rw [if_pos c3, if_pos c3]
        obtain ⟨n, rfl, hn1, hn2⟩ := i32_of (show 0 ≤ p1.toInt by omega)
        have main : ∀ (top : Nat) (B : Nat → AH) (c : Nat), top ≤ 40 → (∀ k, OK (B k)) → (∀ k, zM (B k) = zM A) → (∀ k, zN (B k) = zN A) →
            (∀ u, fX0_need_b29 ln lf dk hv (Int32.ofNat n) p2 u = if Int32.ofNat top < u.1 then some (.inr ((-1000000), u.2)) else (fX0_tried hv u.2).bind fun q5 => (fX0_goOn ln lf dk (if p2 = 0 then Srp (Sro q5 u.1) (Hrp (Sro q5 u.1)) else Srp (Sro q5 (Hro q5)) u.1) (Int32.ofNat n)).bind fun q10 => (gX1_isDone ln q10).bind fun q11 => if q11 = 0 then some (.inl ((u.1 + 1), q10)) else some (.inr (u.1, q10))) →
            (∀ u, fX9_need_b49 (Int32.ofNat n) p2 (Int32.ofNat top) u = if Int32.ofNat top < u.1 then some (.inr ((-1000000), u.2)) else (fX9_tries u.2).bind fun q5 => (wr q5 1247 (Int32.ofNat 43 + Int32.ofNat c) u.1).bind fun w7 => (fX9_goesOn w7 (Int32.ofNat n)).bind fun q8 => (fX9_servedOf q8 43).bind fun q9 => (rd q8 1247 0).bind fun v10 => if q9 = (((1 : Int32) <<< (v10 &&& 31)) - 1) then some (.inr (u.1, q8)) else some (.inl ((u.1 + 1), q8))) →
            c < 7 → (∀ v k, SR ln lf dk v A → SR ln lf dk (if p2 = 0 then Srp (Sro v (Int32.ofNat k)) (Hrp (Sro v (Int32.ofNat k))) else Srp (Sro v (Hro v)) (Int32.ofNat k)) (B k)) → (∀ x k, MR x 43 A → MR (upd x (43 + c) (Int32.ofNat k)) 43 (B k)) →
            ∃ ans tv' w', lp (fX0_need_b29 ln lf dk hv (Int32.ofNat n) p2) FU (1, tv) = some (ans, tv') ∧ lp (fX9_need_b49 (Int32.ofNat n) p2 (Int32.ofNat top)) FU (1, w) = some (ans, w') ∧ FR w w' 43 := by
          intro top B c htop hB1 hB2 hB3 hb hb' hc hBS hBM
          obtain ⟨r, r', x1, x2, x3, x4⟩ := lp_sim (b := fX0_need_b29 ln lf dk hv (Int32.ofNat n) p2) (b' := fX9_need_b49 (Int32.ofNat n) p2 (Int32.ofNat top)) (s := (1, tv)) (s' := (1, w)) (fun (k : Nat) (s : Int32 × HV) (s' : Int32 × (Nat → Int32)) => s.1 = Int32.ofNat (k + 1) ∧ s'.1 = Int32.ofNat (k + 1) ∧ FR w s'.2 43) (fun (r : Int32 × HV) (r' : Int32 × (Nat → Int32)) => r.1 = r'.1 ∧ FR w r'.2 43) top (FUlt (by omega)) (fun k hk s s' hI => by
            obtain ⟨i, u⟩ := s
            obtain ⟨i', x⟩ := s'
            obtain ⟨h1, h2, h3⟩ := hI
            dsimp only at h1 h2 h3
            subst h1; subst h2
            rw [hb, hb']
            dsimp only
            have hLx := hL.try h3
            by_cases hlt : k < top
            · have nlt : ¬ Int32.ofNat top < Int32.ofNat (k + 1) := fun q => by
                have := (olt (a := top) (b := k + 1) (by omega) (by omega)).mp q
                omega
              obtain ⟨v1, t1, t2, t3⟩ := tried_eq hLx u
              obtain ⟨w1, u1, u2, u3, u4⟩ := tries_eq ok.1 hLx.2.1
              have okc := hB1 (k + 1)
              obtain ⟨v2, s1, s2, -⟩ := goOn_eq okc (hBS v1 (k + 1) t2) (n := n) (by omega) (by rw [hB2]; omega)
              obtain ⟨w2, y1, y2, y3⟩ := goesOn_eq okc (hBM w1 (k + 1) u2) (n := n) (by omega) (by rw [hB2]; omega)
              have hd := isDone_eq (okc.pan n) s2
              have hs : fX9_servedOf w2 43 = _ := servedOf_v (r := 43) (by omega) (okc.pan n) y2
              have hN0 : w2 0 = Int32.ofNat (zN (pan n (B (k + 1)))) := by
                rw [pan_N, hB3, y3 0 (by omega), upd_ne (by omega)]
                exact u3.1
              rw [if_neg nlt, if_neg nlt, t1, u1, Option.bind_some, Option.bind_some, s1, Option.bind_some, hd, Option.bind_some, g01, wr1 (c := c) (by omega), Option.bind_some, y1, Option.bind_some, hs, Option.bind_some, show rd w2 1247 0 = some (w2 0) from rdn (k := 0) (by omega) (by omega), hN0, Option.bind_some]
              by_cases cc : svb (pan n (B (k + 1))) = (((1 : Int32) <<< (Int32.ofNat (zN (pan n (B (k + 1)))) &&& 31)) - 1)
              · right
                rw [if_pos cc, if_pos cc]
                exact ⟨_, _, rfl, rfl, rfl, (h3.trans (u4.upd1 (c := c) (by omega))).trans y3⟩
              · left
                rw [if_neg cc, if_neg cc]
                exact ⟨hlt, (Int32.ofNat (k + 1) + 1, v2), (Int32.ofNat (k + 1) + 1, w2), rfl, rfl, o1 _, o1 _, (h3.trans (u4.upd1 (c := c) (by omega))).trans y3⟩
            · right
              have : k = top := by omega
              subst this
              have ylt : Int32.ofNat k < Int32.ofNat (k + 1) := (olt (a := k) (b := k + 1) (by omega) (by omega)).mpr (by omega)
              rw [if_pos ylt, if_pos ylt]
              exact ⟨_, _, rfl, rfl, rfl, h3⟩) ⟨rfl, rfl, fun i _ => rfl⟩
          exact ⟨r.1, r.2, r'.2, x1, by rw [x2, x3], x4⟩
        rcases p01 c3 with rfl | rfl
        · rw [if_pos rfl, Option.bind_some]
          exact main 4 (fun k => roA A (Int32.ofNat k)) 2 (by omega) (fun k => ok.ro _) (fun k => rfl) (fun k => rfl) (fun u => rfl) (fun u => rfl) (by omega) (fun v k hS => by rw [if_pos rfl]; exact hS.ro _) (fun x k hm => hm.ro ok.1 _)
        · rw [if_neg (by decide), Option.bind_some]
          exact main 40 (fun k => rpA A (Int32.ofNat k)) 3 (by omega) (fun k => ok.rp _) (fun k => rfl) (fun k => rfl) (fun u => rfl) (fun u => rfl) (by omega) (fun v k hS => by rw [if_neg (by decide)]; exact hS.rp _) (fun x k hm => hm.rp ok.1 _)
      · rw [if_neg c3, if_neg c3]; exact ⟨_, _, _, rfl, rfl, fun i _ => rfl⟩
    · rw [if_neg c2, if_neg c2]; exact ⟨_, _, _, rfl, rfl, fun i _ => rfl⟩
end A3
