/-! THE PLAIN LAW 18: ranks - the orders -/
set_option maxRecDepth 100000
def oR {T T' : Type} (Q : T → T' → Prop) : Option T → Option T' → Prop
  | none, none => True
  | some a, some b => Q a b
  | _, _ => False
def sR {S T S' T' : Type} (I : S → S' → Prop) (Q : T → T' → Prop) : S ⊕ T → S' ⊕ T' → Prop
  | .inl a, .inl b => I a b
  | .inr a, .inr b => Q a b
  | _, _ => False
theorem oR_bind {T T' U U' : Type} {Q : T → T' → Prop} {R : U → U' → Prop} {x : Option T} {y : Option T'} {f : T → Option U} {g : T' → Option U'} (h : oR Q x y) (k : ∀ a b, Q a b → oR R (f a) (g b)) : oR R (x.bind f) (y.bind g) := by
  cases x with
  | none => cases y with
    | none => trivial
    | some b => exact h.elim
  | some a => cases y with
    | none => exact h.elim
    | some b => exact k a b h
theorem lp_cong {S T S' T' : Type} {b : S → Option (S ⊕ T)} {b' : S' → Option (S' ⊕ T')} (I : S → S' → Prop) (Q : T → T' → Prop) (h : ∀ s s', I s s' → oR (sR I Q) (b s) (b' s')) : ∀ f s s', I s s' → oR Q (lp b f s) (lp b' f s')
  | 0, _, _, _ => trivial
  | f + 1, s, s', hI => by
    unfold lp
    refine oR_bind (h s s' hI) (fun a c hac => ?_)
    cases a with
    | inl a => cases c with
      | inl c => exact lp_cong I Q h f a c hac
      | inr c => exact hac.elim
    | inr a => cases c with
      | inl c => exact hac.elim
      | inr c => exact hac
theorem oR_eq {T : Type} {x y : Option T} (h : x = y) : oR (fun a b => a = b) x y := by
  subst h
  cases x
  · trivial
  · exact rfl
def E (n : Nat) (f g : Nat → Int32) : Prop := rd f n = rd g n
theorem E_at {n : Nat} {f g : Nat → Int32} (h : ∀ k, k < n → f k = g k) : E n f g := by
  funext i
  unfold rd
  by_cases c : i < 0 ∨ n ≤ i.toNatClampNeg
  · rw [if_pos c, if_pos c]
  · rw [if_neg c, if_neg c, h _ (by omega)]
theorem at_E {n : Nat} (hn : n ≤ 2147483648) {f g : Nat → Int32} (h : E n f g) {k : Nat} (hk : k < n) : f k = g k := by
  have := congrFun h (Int32.ofNat k)
  rw [rdn hk hn, rdn hk hn] at this
  exact Option.some.inj this
theorem wr_E {n : Nat} (hn : n ≤ 2147483648) {f g : Nat → Int32} (h : E n f g) (i x : Int32) : oR (E n) (wr f n i x) (wr g n i x) := by
  unfold wr
  by_cases c : i < 0 ∨ n ≤ i.toNatClampNeg
  · rw [if_pos c, if_pos c]; trivial
  · rw [if_neg c, if_neg c]
    refine E_at (fun k hk => ?_)
    unfold upd
    by_cases e : k = i.toNatClampNeg
    · rw [if_pos e, if_pos e]
    · rw [if_neg e, if_neg e]; exact at_E hn h hk
def nx (q1 : Int32) (LI : Nat → Int32) : Option (Int32 × (Nat → Int32)) :=
  (lp (fX0_isNext_b12 LI) FU (q1 - 2)).bind fun r2 =>
  if 0 ≤ r2 then
    (lp (fX0_isNext_b49 LI r2) FU (q1 - 1)).bind fun r3 =>
    (fX0_swap LI r2 r3).bind fun q4 =>
    (lp (fX0_isNext_b86) FU ((r2 + 1), (q1 - 1), q4)).bind fun r5 =>
    some (1, r5)
  else
    some (0, LI)
theorem swap_E {f g : Nat → Int32} (h : E 6 f g) (a b : Int32) : oR (E 6) (fX0_swap f a b) (fX0_swap g a b) := by
  have e : rd f 6 = rd g 6 := h
  unfold fX0_swap
  rw [e]
  refine oR_bind (oR_eq rfl) (fun v1 v1' e1 => ?_)
  refine oR_bind (oR_eq rfl) (fun v2 v2' e2 => ?_)
  subst e1; subst e2
  refine oR_bind (wr_E (by omega) h _ _) (fun w3 w3' e3 => ?_)
  exact oR_bind (wr_E (by omega) e3 _ _) (fun w4 w4' e4 => e4)
theorem nx_E {q1 : Int32} {f g : Nat → Int32} (h : E 6 f g) : oR (fun a b => a.1 = b.1 ∧ E 6 a.2 b.2) (nx q1 f) (nx q1 g) := by
  have e : rd f 6 = rd g 6 := h
  have e1 : fX0_isNext_b12 f = fX0_isNext_b12 g := by funext x; unfold fX0_isNext_b12; rw [e]
  have e2 : ∀ r, fX0_isNext_b49 f r = fX0_isNext_b49 g r := fun r => by funext x; unfold fX0_isNext_b49; rw [e]
  unfold nx
  rw [e1]
  refine oR_bind (oR_eq rfl) (fun r2 r2' q => ?_)
  subst q
  by_cases c : 0 ≤ r2
  · rw [if_pos c, if_pos c, e2]
    refine oR_bind (oR_eq rfl) (fun r3 r3' q => ?_)
    subst q
    refine oR_bind (swap_E h _ _) (fun q4 q4' h4 => ?_)
    refine oR_bind (Q := E 6) (lp_cong (fun s s' => s.1 = s'.1 ∧ s.2.1 = s'.2.1 ∧ E 6 s.2.2 s'.2.2) (E 6) (fun s s' hI => ?_) FU _ _ ⟨rfl, rfl, h4⟩) (fun r5 r5' h5 => ⟨rfl, h5⟩)
    obtain ⟨a, b, u⟩ := s
    obtain ⟨a', b', u'⟩ := s'
    obtain ⟨i1, i2, i3⟩ := hI
    dsimp only at i1 i2 i3
    subst i1; subst i2
    unfold fX0_isNext_b86
    dsimp only
    by_cases c2 : b ≤ a
    · rw [if_pos c2, if_pos c2]; exact i3
    · rw [if_neg c2, if_neg c2]
      refine oR_bind (swap_E i3 _ _) (fun q6 q6' h6 => ?_)
      rw [Option.bind_some, Option.bind_some]
      exact ⟨rfl, rfl, h6⟩
  · rw [if_neg c, if_neg c]
    exact ⟨rfl, h⟩
/-! the machines over closed lists -/
def arr (l : List Int32) : Nat → Int32 := fun i => l.getD i 0
def tab : Nat → (Nat → Int32) → List Int32
  | 0, _ => []
  | n + 1, f => f 0 :: tab n (fun i => f (i + 1))
theorem arr_tab : ∀ {n k : Nat} {f : Nat → Int32}, k < n → arr (tab n f) k = f k
  | 0, _, _, h => absurd h (Nat.not_lt_zero _)
  | n + 1, 0, f, _ => rfl
  | n + 1, k + 1, f, h => arr_tab (n := n) (k := k) (f := fun i => f (i + 1)) (by omega)
def wN (N : Nat) : Nat → Int32 := fun _ => Int32.ofNat N
/-- small numbers as literals (the kernel keeps no thunks) -/
def pick {T : Type} (v : Int32) (k : Int32 → T) : T := if v = 0 then k 0 else if v = 1 then k 1 else if v = 2 then k 2 else if v = 3 then k 3 else if v = 4 then k 4 else if v = 5 then k 5 else if v = 6 then k 6 else if v = -1 then k (-1) else k v
theorem pick_eq {T : Type} (v : Int32) (k : Int32 → T) : pick v k = k v := by
  unfold pick
  repeat' split
  all_goals first | rfl | (next h => rw [h])
def tabK {T : Type} : Nat → (Nat → Int32) → (List Int32 → T) → T
  | 0, _, k => k []
  | n + 1, f, k => pick (f 0) fun v => tabK n (fun i => f (i + 1)) fun t => k (v :: t)
theorem tabK_eq {T : Type} : ∀ (n : Nat) (f : Nat → Int32) (k : List Int32 → T), tabK n f k = k (tab n f)
  | 0, _, _ => rfl
  | n + 1, f, k => by
    unfold tabK
    rw [pick_eq, tabK_eq n]
    rfl
/-- the reference's walk up to the next full order (some), or to its end (none) -/
def rnM (N : Nat) : Nat → Int32 → List Int32 → Option (Option (List Int32))
  | 0, _, _ => none
  | f + 1, d, l => if d = Int32.ofNat N then some (some l) else
    (fX9_bestRanks_b12 0 (0, d, wN N, arr l, fun _ => 0)).bind fun y => match y with
    | .inl y => if y.2.2.2.1 d.toNatClampNeg ≤ Int32.ofNat N then pick y.2.1 (fun d' => tabK 7 y.2.2.2.1 (fun l' => rnM N f d' l')) else none
    | .inr _ => some none
def okL (N : Nat) (lS lM : List Int32) : Bool := (List.range N).all (fun i => arr lS i == arr lM i && decide (0 ≤ arr lS i) && decide (arr lS i < Int32.ofNat N))
def chkC (k : List Int32 → List Int32 → Bool) (ok : Bool) (x : Option (Int32 × (Nat → Int32))) (r : Option (Option (List Int32))) : Bool := ok && (match x with
    | none => false
    | some q => match r with
      | none => false
      | some none => q.1 == 0
      | some (some lM') => q.1 == 1 && tabK 6 q.2 (fun lS' => k lS' lM'))
theorem chkC_inv {k : List Int32 → List Int32 → Bool} {ok : Bool} {x : Option (Int32 × (Nat → Int32))} {r : Option (Option (List Int32))} (h : chkC k ok x r = true) : ok = true ∧ ∃ q, x = some q ∧ ∃ res, r = some res ∧ (res = none → q.1 = 0) ∧ ∀ lM', res = some lM' → q.1 = 1 ∧ k (tab 6 q.2) lM' = true := by
  unfold chkC at h
  rw [Bool.and_eq_true] at h
  obtain ⟨h1, h⟩ := h
  refine ⟨h1, ?_⟩
  cases x with
  | none => cases h
  | some q =>
    cases r with
    | none => cases h
    | some res =>
      refine ⟨q, rfl, res, rfl, ?_⟩
      cases res with
      | none => exact ⟨fun _ => beq_iff_eq.mp h, fun lM' e => (by cases e)⟩
      | some lM =>
        dsimp only at h
        rw [Bool.and_eq_true, tabK_eq] at h
        refine ⟨fun e => (by cases e), fun lM' e => ?_⟩
        cases e
        exact ⟨beq_iff_eq.mp h.1, h.2⟩
def chk (N : Nat) : Nat → List Int32 → List Int32 → Bool
  | 0, _, _ => false
  | f + 1, lS, lM => chkC (chk N f) (okL N lS lM) (nx (Int32.ofNat N) (arr lS)) (rnM N 30 (Int32.ofNat N + (-1)) lM)
theorem chk_succ {N f : Nat} {lS lM : List Int32} (h : chk N (f + 1) lS lM = true) : chkC (chk N f) (okL N lS lM) (nx (Int32.ofNat N) (arr lS)) (rnM N 30 (Int32.ofNat N + (-1)) lM) = true := h
theorem chk_zero {N : Nat} {lS lM : List Int32} (h : chk N 0 lS lM = true) : False := Bool.noConfusion h
def chk0 (N : Nat) : Bool := match rnM N 30 0 [-1, 0, 0, 0, 0, 0, 0] with
  | some (some lM) => chk N 720 [0, 1, 2, 3, 4, 5] lM
  | _ => false
theorem chk_1 : chk0 1 = true := by decide +kernel
theorem chk_2 : chk0 2 = true := by decide +kernel
theorem chk_3 : chk0 3 = true := by decide +kernel
theorem chk_4 : chk0 4 = true := by decide +kernel
theorem chk_5 : chk0 5 = true := by decide +kernel
theorem chk_6 : chk0 6 = true := by decide +kernel
