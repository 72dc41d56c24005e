/-! THE PLAIN LAW 0: small numbers, loops, sets of bits -/
set_option maxRecDepth 100000
theorem tnc {k : Nat} (h : k < 2147483648) : (Int32.ofNat k).toNatClampNeg = k := Int32.toNatClampNeg_ofNat_of_lt h
theorem nneg {k : Nat} (h : k < 2147483648) : ¬ Int32.ofNat k < 0 := by
  intro h2
  have := (Int32.ofNat_lt_iff_lt (a := k) (b := 0) h (by decide)).mp h2
  omega
theorem olt {a b : Nat} (ha : a < 2147483648) (hb : b < 2147483648) : Int32.ofNat a < Int32.ofNat b ↔ a < b := Int32.ofNat_lt_iff_lt ha hb
theorem ole {a b : Nat} (ha : a < 2147483648) (hb : b < 2147483648) : Int32.ofNat a ≤ Int32.ofNat b ↔ a ≤ b := Int32.ofNat_le_iff_le ha hb
theorem oeq {a b : Nat} (ha : a < 2147483648) (hb : b < 2147483648) : Int32.ofNat a = Int32.ofNat b ↔ a = b := by
  constructor
  · intro h
    have := congrArg Int32.toNatClampNeg h
    rwa [tnc ha, tnc hb] at this
  · intro h; rw [h]
theorem o1 (k : Nat) : Int32.ofNat k + 1 = Int32.ofNat (k + 1) := (Int32.ofNat_add k 1).symm
theorem oadd (a b : Nat) : Int32.ofNat a + Int32.ofNat b = Int32.ofNat (a + b) := (Int32.ofNat_add a b).symm
theorem rdn {f : Nat → Int32} {n k : Nat} (h : k < n) (hn : n ≤ 2147483648) : rd f n (Int32.ofNat k) = some (f k) := by
  unfold rd
  have hk : k < 2147483648 := by omega
  rw [tnc hk, if_neg]
  rintro (h1 | h1)
  · exact nneg hk h1
  · omega
theorem wrn {f : Nat → Int32} {n k : Nat} {x : Int32} (h : k < n) (hn : n ≤ 2147483648) : wr f n (Int32.ofNat k) x = some (upd f k x) := by
  unfold wr
  have hk : k < 2147483648 := by omega
  rw [tnc hk, if_neg]
  rintro (h1 | h1)
  · exact nneg hk h1
  · omega
theorem rdqn {f : Nat → Option Nat} {n k : Nat} (h : k < n) (hn : n ≤ 2147483648) : rdq f n (Int32.ofNat k) = some (f k) := by
  unfold rdq
  have hk : k < 2147483648 := by omega
  rw [tnc hk, if_neg]
  rintro (h1 | h1)
  · exact nneg hk h1
  · omega
/-- an index that is a sum -/
theorem rde {f : Nat → Int32} {n : Nat} {i : Int32} (k : Nat) (e : i = Int32.ofNat k) (h : k < n) (hn : n ≤ 2147483648) : rd f n i = some (f k) := by rw [e]; exact rdn h hn
theorem wre {f : Nat → Int32} {n : Nat} {i x : Int32} (k : Nat) (e : i = Int32.ofNat k) (h : k < n) (hn : n ≤ 2147483648) : wr f n i x = some (upd f k x) := by rw [e]; exact wrn h hn
theorem upd_same {f : Nat → Int32} {k : Nat} {x : Int32} : upd f k x k = x := by simp [upd]
theorem upd_ne {f : Nat → Int32} {k j : Nat} {x : Int32} (h : j ≠ k) : upd f k x j = f j := by simp [upd, h]
/-! loops -/
theorem FU_val : FU = 100000 := rfl
theorem lp_run {S T : Type} {b : S → Option (S ⊕ T)} {r : T} (st : Nat → S) : ∀ (m fuel k : Nat), m < fuel → (∀ j, j < m → b (st (k + j)) = some (.inl (st (k + j + 1)))) → b (st (k + m)) = some (.inr r) → lp b fuel (st k) = some r := by
  intro m
  induction m with
  | zero =>
    intro fuel k hf _ h2
    cases fuel with
    | zero => omega
    | succ fuel =>
      show (b (st k)).bind _ = some r
      rw [show st k = st (k + 0) from rfl, h2]; rfl
  | succ m ih =>
    intro fuel k hf h1 h2
    cases fuel with
    | zero => omega
    | succ fuel =>
      show (b (st k)).bind _ = some r
      rw [show st k = st (k + 0) from rfl, h1 0 (by omega)]
      show lp b fuel (st (k + 0 + 1)) = some r
      refine ih fuel (k + 1) (by omega) (fun j hj => ?_) ?_
      · have := h1 (j + 1) (by omega)
        rw [show k + (j + 1) = k + 1 + j by omega] at this
        exact this
      · rw [show k + (m + 1) = k + 1 + m by omega] at h2
        exact h2
/-- a counted loop whose states are told -/
theorem lp_cnt {S T : Type} {b : S → Option (S ⊕ T)} {r : T} {n : Nat} (hn : n < FU) (st : Nat → S) (step : ∀ k, k < n → b (st k) = some (.inl (st (k + 1)))) (fin : b (st n) = some (.inr r)) : lp b FU (st 0) = some r :=
  lp_run st n FU 0 hn (fun j hj => by rw [Nat.zero_add]; exact step j hj) (by rw [Nat.zero_add]; exact fin)
theorem lp_simF {S T S' T' : Type} {b : S → Option (S ⊕ T)} {b' : S' → Option (S' ⊕ T')} (I : Nat → S → S' → Prop) (Q : T → T' → Prop) (n : Nat)
    (step : ∀ k, k ≤ n → ∀ s s', I k s s' → (k < n ∧ ∃ t t', b s = some (.inl t) ∧ b' s' = some (.inl t') ∧ I (k + 1) t t') ∨ (∃ r r', b s = some (.inr r) ∧ b' s' = some (.inr r') ∧ Q r r')) :
    ∀ (fuel k : Nat), k ≤ n → n - k < fuel → ∀ s s', I k s s' → ∃ r r', lp b fuel s = some r ∧ lp b' fuel s' = some r' ∧ Q r r' := by
  intro fuel
  induction fuel with
  | zero => intro k _ h; omega
  | succ fuel ih =>
    intro k hk hf s s' hI
    rcases step k hk s s' hI with ⟨hlt, t, t', h1, h2, h3⟩ | ⟨r, r', h1, h2, h3⟩
    · obtain ⟨r, r', g1, g2, g3⟩ := ih (k + 1) (by omega) (by omega) t t' h3
      refine ⟨r, r', ?_, ?_, g3⟩
      · show (b s).bind _ = some r
        rw [h1]; exact g1
      · show (b' s').bind _ = some r'
        rw [h2]; exact g2
    · refine ⟨r, r', ?_, ?_, h3⟩
      · show (b s).bind _ = some r
        rw [h1]; rfl
      · show (b' s').bind _ = some r'
        rw [h2]; rfl
/-- two loops in step -/
theorem lp_sim {S T S' T' : Type} {b : S → Option (S ⊕ T)} {b' : S' → Option (S' ⊕ T')} (I : Nat → S → S' → Prop) (Q : T → T' → Prop) (n : Nat) (hn : n < FU)
    (step : ∀ k, k ≤ n → ∀ s s', I k s s' → (k < n ∧ ∃ t t', b s = some (.inl t) ∧ b' s' = some (.inl t') ∧ I (k + 1) t t') ∨ (∃ r r', b s = some (.inr r) ∧ b' s' = some (.inr r') ∧ Q r r'))
    {s : S} {s' : S'} (h0 : I 0 s s') : ∃ r r', lp b FU s = some r ∧ lp b' FU s' = some r' ∧ Q r r' := lp_simF I Q n step FU 0 (Nat.zero_le _) (by omega) s s' h0
/-- one loop by its invariant -/
theorem lp_inv {S T : Type} {b : S → Option (S ⊕ T)} (I : Nat → S → Prop) (Q : T → Prop) (n : Nat) (hn : n < FU)
    (step : ∀ k, k ≤ n → ∀ s, I k s → (k < n ∧ ∃ t, b s = some (.inl t) ∧ I (k + 1) t) ∨ (∃ r, b s = some (.inr r) ∧ Q r)) {s : S} (h0 : I 0 s) : ∃ r, lp b FU s = some r ∧ Q r := by
  obtain ⟨r, r', h1, -, h3⟩ := lp_sim (b := b) (b' := b) (fun k s s' => I k s ∧ s' = s) (fun r r' => Q r ∧ r' = r) n hn (fun k hk s s' h => by
    obtain ⟨h, rfl⟩ := h
    rcases step k hk s' h with ⟨a1, t, a2, a3⟩ | ⟨r, a1, a2⟩
    · exact Or.inl ⟨a1, t, t, a2, a2, a3, rfl⟩
    · exact Or.inr ⟨r, r, a1, a1, a2, rfl⟩) (s := s) (s' := s) ⟨h0, rfl⟩
  exact ⟨r, h1, h3.1⟩
/-! sets of bits -/
def bs : Nat → (Nat → Bool) → Int32
  | 0, _ => 0
  | n + 1, p => bs n p ||| (if p n then (1 : Int32) <<< (Int32.ofNat n &&& 31) else 0)
def cn : Nat → (Nat → Bool) → Nat
  | 0, _ => 0
  | n + 1, p => cn n p + (if p n then 1 else 0)
def sm : Nat → (Nat → Int32) → Int32
  | 0, _ => 0
  | n + 1, f => sm n f + f n
def an : Nat → (Nat → Bool) → Bool
  | 0, _ => false
  | n + 1, p => an n p || p n
theorem bs_congr {p q : Nat → Bool} : ∀ {n : Nat}, (∀ k, k < n → p k = q k) → bs n p = bs n q
  | 0, _ => rfl
  | n + 1, h => by unfold bs; rw [bs_congr (fun k hk => h k (by omega)), h n (by omega)]
theorem cn_congr {p q : Nat → Bool} : ∀ {n : Nat}, (∀ k, k < n → p k = q k) → cn n p = cn n q
  | 0, _ => rfl
  | n + 1, h => by unfold cn; rw [cn_congr (fun k hk => h k (by omega)), h n (by omega)]
theorem sm_congr {p q : Nat → Int32} : ∀ {n : Nat}, (∀ k, k < n → p k = q k) → sm n p = sm n q
  | 0, _ => rfl
  | n + 1, h => by unfold sm; rw [sm_congr (fun k hk => h k (by omega)), h n (by omega)]
theorem an_congr {p q : Nat → Bool} : ∀ {n : Nat}, (∀ k, k < n → p k = q k) → an n p = an n q
  | 0, _ => rfl
  | n + 1, h => by unfold an; rw [an_congr (fun k hk => h k (by omega)), h n (by omega)]
theorem an_iff {p : Nat → Bool} : ∀ {n : Nat}, an n p = true ↔ ∃ k, k < n ∧ p k = true
  | 0 => ⟨fun h => (by cases h), fun ⟨k, h, _⟩ => (by omega)⟩
  | n + 1 => by
    unfold an
    rw [Bool.or_eq_true, an_iff]
    constructor
    · rintro (⟨k, h1, h2⟩ | h)
      · exact ⟨k, by omega, h2⟩
      · exact ⟨n, by omega, h⟩
    · rintro ⟨k, h1, h2⟩
      by_cases e : k = n
      · subst e; exact Or.inr h2
      · exact Or.inl ⟨k, by omega, h2⟩
theorem or0 (x : Int32) : x ||| 0 = x := by simp
theorem bs_pad {p : Nat → Bool} {n : Nat} : ∀ (m : Nat), bs (n + m) (fun k => decide (k < n) && p k) = bs n p
  | 0 => bs_congr (fun k hk => by have h : k < n := hk; simp [h])
  | m + 1 => by
    show bs (n + m) _ ||| _ = _
    rw [bs_pad m]
    have h : ¬ n + m < n := by omega
    simp [h]
theorem cn_pad {p : Nat → Bool} {n : Nat} : ∀ (m : Nat), cn (n + m) (fun k => decide (k < n) && p k) = cn n p
  | 0 => cn_congr (fun k hk => by have h : k < n := hk; simp [h])
  | m + 1 => by
    show cn (n + m) _ + _ = _
    rw [cn_pad m]
    have h : ¬ n + m < n := by omega
    simp [h]
theorem cn_le {p : Nat → Bool} : ∀ (n : Nat), cn n p ≤ n
  | 0 => Nat.le_refl _
  | n + 1 => by
    have := cn_le (p := p) n
    unfold cn
    split <;> omega
def pl (b0 b1 b2 b3 b4 b5 : Bool) : Nat → Bool := fun k => match k with
  | 0 => b0
  | 1 => b1
  | 2 => b2
  | 3 => b3
  | 4 => b4
  | 5 => b5
  | _ => false
theorem ones6 : ∀ b0 b1 b2 b3 b4 b5 : Bool, fX9_ones (bs 6 (pl b0 b1 b2 b3 b4 b5)) = some (Int32.ofNat (cn 6 (pl b0 b1 b2 b3 b4 b5))) := by decide +kernel
theorem bits6 : ∀ b0 b1 b2 b3 b4 b5 : Bool, fJ15_bitCount (bs 6 (pl b0 b1 b2 b3 b4 b5)) = some (Int32.ofNat (cn 6 (pl b0 b1 b2 b3 b4 b5))) := by decide +kernel
theorem pl_eq {p : Nat → Bool} (k : Nat) (h : k < 6) : p k = pl (p 0) (p 1) (p 2) (p 3) (p 4) (p 5) k := by
  match k, h with
  | 0, _ => rfl
  | 1, _ => rfl
  | 2, _ => rfl
  | 3, _ => rfl
  | 4, _ => rfl
  | 5, _ => rfl
/-- a fact of all sets of six: by looking -/
theorem six {P : Int32 → Nat → Prop} {n : Nat} (hn : n ≤ 6) {p : Nat → Bool} (h : ∀ b0 b1 b2 b3 b4 b5 : Bool, P (bs 6 (pl b0 b1 b2 b3 b4 b5)) (cn 6 (pl b0 b1 b2 b3 b4 b5))) : P (bs n p) (cn n p) := by
  obtain ⟨m, hm⟩ : ∃ m, n + m = 6 := ⟨6 - n, by omega⟩
  have e1 := bs_pad (p := p) (n := n) m
  have e2 := cn_pad (p := p) (n := n) m
  rw [hm] at e1 e2
  rw [← e1, ← e2]
  generalize (fun k => decide (k < n) && p k) = q
  rw [bs_congr (p := q) (q := pl (q 0) (q 1) (q 2) (q 3) (q 4) (q 5)) (fun k hk => pl_eq k hk), cn_congr (p := q) (q := pl (q 0) (q 1) (q 2) (q 3) (q 4) (q 5)) (fun k hk => pl_eq k hk)]
  exact h _ _ _ _ _ _
theorem ones_bs {n : Nat} (hn : n ≤ 6) (p : Nat → Bool) : fX9_ones (bs n p) = some (Int32.ofNat (cn n p)) := six (P := fun b c => fX9_ones b = some (Int32.ofNat c)) hn ones6
theorem bits_bs {n : Nat} (hn : n ≤ 6) (p : Nat → Bool) : fJ15_bitCount (bs n p) = some (Int32.ofNat (cn n p)) := six (P := fun b c => fJ15_bitCount b = some (Int32.ofNat c)) hn bits6
theorem has6 : ∀ b0 b1 b2 b3 b4 b5 : Bool, ∀ k : Fin 6, fX9_has (bs 6 (pl b0 b1 b2 b3 b4 b5)) (Int32.ofNat k.val) = some (if pl b0 b1 b2 b3 b4 b5 k.val then 1 else 0) := by decide +kernel
theorem has_bs {n : Nat} (hn : n ≤ 6) (p : Nat → Bool) {k : Nat} (hk : k < n) : fX9_has (bs n p) (Int32.ofNat k) = some (if p k then 1 else 0) := by
  obtain ⟨m, hm⟩ : ∃ m, n + m = 6 := ⟨6 - n, by omega⟩
  have e1 := bs_pad (p := p) (n := n) m
  rw [hm] at e1
  rw [← e1]
  have e3 : p k = (fun k => decide (k < n) && p k) k := by simp [hk]
  rw [e3]
  generalize (fun k => decide (k < n) && p k) = q
  have h6 : k < 6 := by omega
  rw [bs_congr (p := q) (q := pl (q 0) (q 1) (q 2) (q 3) (q 4) (q 5)) (fun k hk => pl_eq k hk), pl_eq (p := q) k h6]
  exact has6 _ _ _ _ _ _ ⟨k, h6⟩
theorem bs_or : ∀ (n : Nat) (p : Nat → Bool) (c : Nat), c < n → bs n p ||| ((1 : Int32) <<< (Int32.ofNat c &&& 31)) = bs n (fun f => p f || f == c)
  | 0, _, _, h => by omega
  | n + 1, p, c, h => by
    by_cases e : c = n
    · subst e
      have h1 : bs c (fun f => p f || f == c) = bs c p := bs_congr (fun k hk => by
        have : (k == c) = false := by simp; omega
        simp [this])
      unfold bs
      rw [h1]
      cases hp : p c
      · simp
      · simp [Int32.or_assoc]
    · have h1 := bs_or n p c (by omega)
      unfold bs
      rw [← h1]
      have h2 : (n == c) = false := by simp; omega
      simp only [h2, Bool.or_false]
      rw [Int32.or_assoc, Int32.or_assoc, Int32.or_comm (if p n = true then _ else _)]
def pl9 (b0 b1 b2 b3 b4 b5 b6 b7 b8 : Bool) : Nat → Bool := fun k => match k with
  | 0 => b0
  | 1 => b1
  | 2 => b2
  | 3 => b3
  | 4 => b4
  | 5 => b5
  | 6 => b6
  | 7 => b7
  | 8 => b8
  | _ => false
theorem pl9_eq {p : Nat → Bool} (k : Nat) (h : k < 9) : p k = pl9 (p 0) (p 1) (p 2) (p 3) (p 4) (p 5) (p 6) (p 7) (p 8) k := by
  match k, h with
  | 0, _ => rfl
  | 1, _ => rfl
  | 2, _ => rfl
  | 3, _ => rfl
  | 4, _ => rfl
  | 5, _ => rfl
  | 6, _ => rfl
  | 7, _ => rfl
  | 8, _ => rfl
/-- what the car's turn asks of the floors that call -/
def go9t (s : Int32) (p : Nat → Bool) (c : Nat) : Bool :=
  (s &&& (((1 : Int32) <<< (Int32.ofNat c &&& 31)) ^^^ (-1)) == bs 9 (fun f => p f && f != c)) &&
  (decide ((s >>> (Int32.ofNat c &&& 31)) = 0) == !(an 9 (fun f => decide (c ≤ f) && p f))) &&
  (decide ((s >>> (Int32.ofNat c &&& 31)) ≤ 0) == !(an 9 (fun f => decide (c ≤ f) && p f))) &&
  (decide ((s &&& (((1 : Int32) <<< (Int32.ofNat c &&& 31)) - 1)) = 0) == !(an 9 (fun f => decide (f < c) && p f))) &&
  (decide ((s &&& (((1 : Int32) <<< (Int32.ofNat c &&& 31)) - 1)) ≤ 0) == !(an 9 (fun f => decide (f < c) && p f))) &&
  (decide (s = 0) == !(an 9 p))
theorem go9d : ∀ b0 b1 b2 b3 b4 b5 b6 b7 b8 : Bool, ∀ c : Fin 9, go9t (bs 9 (pl9 b0 b1 b2 b3 b4 b5 b6 b7 b8)) (pl9 b0 b1 b2 b3 b4 b5 b6 b7 b8) c.val = true := by decide +kernel
theorem go9t_congr {s : Int32} {p q : Nat → Bool} {c : Nat} (e : ∀ k, k < 9 → p k = q k) : go9t s p c = go9t s q c := by
  unfold go9t
  rw [bs_congr (p := fun f => p f && f != c) (q := fun f => q f && f != c) (fun k hk => by rw [e k hk]), an_congr (p := fun f => decide (c ≤ f) && p f) (q := fun f => decide (c ≤ f) && q f) (fun k hk => by rw [e k hk]), an_congr (p := fun f => decide (f < c) && p f) (q := fun f => decide (f < c) && q f) (fun k hk => by rw [e k hk]), an_congr e]
theorem go9 (p : Nat → Bool) {c : Nat} (hc : c < 9) : go9t (bs 9 p) p c = true := by
  have h := go9d (p 0) (p 1) (p 2) (p 3) (p 4) (p 5) (p 6) (p 7) (p 8) ⟨c, hc⟩
  have e : ∀ k, k < 9 → pl9 (p 0) (p 1) (p 2) (p 3) (p 4) (p 5) (p 6) (p 7) (p 8) k = p k := fun k hk => (pl9_eq (p := p) k hk).symm
  rw [go9t_congr e, bs_congr e] at h
  exact h
theorem go9_mask (p : Nat → Bool) {c : Nat} (hc : c < 9) : bs 9 p &&& (((1 : Int32) <<< (Int32.ofNat c &&& 31)) ^^^ (-1)) = bs 9 (fun f => p f && f != c) := by
  have h := go9 p hc
  simp only [go9t, Bool.and_eq_true, beq_iff_eq] at h
  exact h.1.1.1.1.1
theorem go9_up (p : Nat → Bool) {c : Nat} (hc : c < 9) : (((bs 9 p >>> (Int32.ofNat c &&& 31)) = 0) = (an 9 (fun f => decide (c ≤ f) && p f) = false)) ∧ (((bs 9 p >>> (Int32.ofNat c &&& 31)) ≤ 0) = (an 9 (fun f => decide (c ≤ f) && p f) = false)) := by
  have h := go9 p hc
  simp only [go9t, Bool.and_eq_true, beq_iff_eq] at h
  have h1 := h.1.1.1.1.2
  have h2 := h.1.1.1.2
  generalize an 9 (fun f => decide (c ≤ f) && p f) = b at h1 h2
  cases b
  · exact ⟨by simpa using h1, by simpa using h2⟩
  · exact ⟨by simpa using h1, by simpa using h2⟩
theorem go9_dn (p : Nat → Bool) {c : Nat} (hc : c < 9) : (((bs 9 p &&& (((1 : Int32) <<< (Int32.ofNat c &&& 31)) - 1)) = 0) = (an 9 (fun f => decide (f < c) && p f) = false)) ∧ (((bs 9 p &&& (((1 : Int32) <<< (Int32.ofNat c &&& 31)) - 1)) ≤ 0) = (an 9 (fun f => decide (f < c) && p f) = false)) := by
  have h := go9 p hc
  simp only [go9t, Bool.and_eq_true, beq_iff_eq] at h
  have h1 := h.1.1.2
  have h2 := h.1.2
  generalize an 9 (fun f => decide (f < c) && p f) = b at h1 h2
  cases b
  · exact ⟨by simpa using h1, by simpa using h2⟩
  · exact ⟨by simpa using h1, by simpa using h2⟩
theorem go9_none (p : Nat → Bool) : ((bs 9 p = 0) = (an 9 p = false)) := by
  have h := go9 p (c := 0) (by omega)
  simp only [go9t, Bool.and_eq_true, beq_iff_eq] at h
  have h1 := h.2
  generalize an 9 p = b at h1
  cases b
  · simpa using h1
  · simpa using h1
