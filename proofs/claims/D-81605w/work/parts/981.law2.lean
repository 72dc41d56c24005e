/-! THE LAW LEVEL 2: act by act -/
set_option maxRecDepth 100000
theorem pcountG {α : Type} {a b : List α} (h : ∀ (f : List α → Nat) (g : α → Nat), (∀ x y, f (x ++ y) = f x + f y) → (∀ x xs, f (x :: xs) = g x + f xs) → f [] = 0 → (∀ x y : List α, x.Perm y → f x = f y) → f a = f b) : a.Perm b := by
  classical
  exact List.perm_iff_count.mpr (fun z => h (List.count z) (fun x => if x == z then 1 else 0) (fun x y => List.count_append) (fun x xs => by rw [List.count_cons, Nat.add_comm]) List.count_nil (fun x y hxy => List.perm_iff_count.mp hxy z))
theorem pcountP {a b : va_W} (h : ∀ (f : va_W → Nat) (g : Nat × va_E → Nat), (∀ x y, f (x ++ y) = f x + f y) → (∀ x xs, f (x :: xs) = g x + f xs) → f [] = 0 → (∀ x y : va_W, x.Perm y → f x = f y) → f a = f b) : a.Perm b := pcountG h
def RB (rm : Room) : Bool := Nat.ble rm.frames 200 && (Nat.ble rm.cells 4000 && (Nat.ble rm.slots 50000 && Nat.ble rm.locals 50000))
/-- the facts between the two -/
def FA (d : Nat → ClassId) (tm : Int32) (TB TA : Nat → Int32) (TK RW PA IA : Nat → Option Nat) (hv : HV) (rs : Nat → Option Rw) (qa xa : Nat → Nat → Nat) (PH : Nat → HV) (IH : Nat → Option HV) (ln : Nat → Option Int32) (lf : Nat → Nat → Option Nat) (dk : Nat → Option Nat) (dn : Nat → Int32) (wi : va_W) (g t : Nat) (fr : Int32) (Ww TM MA LA IT KP TR : Nat → Int32) : Prop :=
  TV ln lf dk hv Ww ∧ PVs ln lf dk PH Ww g ∧ IVs ln lf dk IH KP Ww ∧ RR rs MA LA IT ∧ (∀ i, i < 8 → (rs i = none ∧ RW i = none) ∨ ∃ x a, rs i = some x ∧ RW i = some a) ∧ TT tm TB fr TR ∧ TP t TA TM ∧ GE ln lf dk dn ∧ (∀ k, k < 5 → ∃ e, TK k = some e ∧ dk e = some k) ∧
  (∀ j a, j < 24 → PA j = some a → a = qa j 0) ∧ (∀ j, j < g → ∃ a, PA j = some a) ∧ (∀ i, i < 2 → (IH i = none ∧ IA i = none) ∨ ∃ q, IH i = some q ∧ IA i = some (xa i 0)) ∧ ImF d wi ln lf dk dn
/-- the two stand alike: the system's cells are ws, the reference's wm -/
def RM (d : Nat → ClassId) (sa ha ta ad : Nat → Nat) (w0 ws wm : va_W) : Prop :=
  ∃ (gf gs fa fb fn fr : Int32) (Ww TM MA LA IT HE OR BO VV KP TR : Nat → Int32) (tra tba : Nat) (tm : Int32) (TB : Nat → Int32) (hv tv : HV) (LI BE TA : Nat → Int32) (TK RW PA IA : Nat → Option Nat) (rs : Nat → Option Rw) (ria : Nat → Nat) (qa xa : Nat → Nat → Nat) (PH : Nat → HV) (IH : Nat → Option HV) (ln : Nat → Option Int32) (lf : Nat → Nat → Option Nat) (dk : Nat → Option Nat) (dn : Nat → Int32) (wi : va_W) (g t : Nat),
    wm = MW d ad (Int32.ofNat g) (Int32.ofNat t) gf gs fa fb fn fr Ww TM MA LA IT HE OR BO VV KP TR ∧
    ws.Perm (SYS d sa ha ta (Int32.ofNat t) gf (Int32.ofNat g) tra gs RW TA PA IA LI BE TK hv tv tba tm TB ++ (pool (rC d ria RW rs) 8 ++ (pool (pC d PA qa PH) 24 ++ (pool (iC d IH xa) 2 ++ wi)))) ∧
    FA d tm TB TA TK RW PA IA hv rs qa xa PH IH ln lf dk dn (w0 ++ wi) g t fr Ww TM MA LA IT KP TR
/-- both calls answer alike and leave the two alike -/
def LawI (l : Launch) (y0 : MethodName) (w0y : List Cond) (y9 : MethodName) (w9y : List Cond) (av : List Value) (D : va_G) (d : Nat → ClassId) (cs : Nat → Nat) (w0 : va_W) (s0 a0 : Nat) (ws wm : va_W) (R' : va_W → va_W → Prop) : Prop :=
  ∃ (ans : Int32) (wm' : va_W) (rm0 rm9 : Room), RB rm0 = true ∧ RB rm9 = true ∧ MetI l y0 w0y rm0 (.ref s0 :: av) (XE D cs w0) D d ws (fun r (u : va_W) => r = ans ∧ R' u wm') (fun u => u) ∧ MetI l y9 w9y rm9 (.ref a0 :: av) (XE D cs w0) D d wm (fun r (_ : Unit) => r = ans) (fun _ => wm')
def LawL (l : Launch) (y0 : MethodName) (w0y : List Cond) (y9 : MethodName) (w9y : List Cond) (av : List Value) (D : va_G) (d : Nat → ClassId) (cs : Nat → Nat) (w0 : va_W) (s0 a0 : Nat) (ws wm : va_W) (R' : va_W → va_W → Prop) : Prop :=
  ∃ (ans : Int64) (wm' : va_W) (rm0 rm9 : Room), RB rm0 = true ∧ RB rm9 = true ∧ MetL l y0 w0y rm0 (.ref s0 :: av) (XE D cs w0) D d ws (fun r (u : va_W) => r = ans ∧ R' u wm') (fun u => u) ∧ MetL l y9 w9y rm9 (.ref a0 :: av) (XE D cs w0) D d wm (fun r (_ : Unit) => r = ans) (fun _ => wm')
section LAWOF
variable {l : Launch} {y0 y9 : MethodName} {w0y w9y : List Cond} {av : List Value} {D : va_G} {d : Nat → ClassId} {cs : Nat → Nat} {w0 ws wm wi wc wr wc9 wr9 wm' : va_W} {s0 a0 : Nat} {R' : va_W → va_W → Prop} {rm0 rm9 : Room} {S0 S9 : Type} {w1 : S0 → va_W} {w19 : S9 → va_W}
theorem law_of {ans : Int32} {post0 : Int32 → S0 → Prop} {post9 : Int32 → S9 → Prop} (M0 : MetI l y0 w0y rm0 (.ref s0 :: av) (XI D cs wi) D d wc post0 w1) (M9 : MetI l y9 w9y rm9 (.ref a0 :: av) (XE D cs w0) D d wc9 post9 w19) (hb0 : RB rm0 = true) (hb9 : RB rm9 = true) (hp : ws.Perm (wc ++ wr)) (hi : ∀ q ∈ wi, q ∈ w0 ∨ q ∈ wr) (hp9 : wm.Perm (wc9 ++ wr9))
    (hq0 : ∀ r u, post0 r u → apw (w1 u ++ wr) → r = ans ∧ R' (w1 u ++ wr) wm') (hq9 : ∀ r u, post9 r u → r = ans ∧ (w19 u ++ wr9).Perm wm') : LawI l y0 w0y y9 w9y av D d cs w0 s0 a0 ws wm R' :=
  ⟨ans, wm', rm0, rm9, hb0, hb9, M0.fr2 hp (fun U sz hh => XE.frI hp hi U sz hh) (fun r u h ha => ⟨_, hq0 r u h ha, [], by rw [List.append_nil]⟩),
    M9.fr hp9 (fun U sz hh => XE.ok.fr hp9 U sz hh) (fun r u h => ⟨(), (hq9 r u h).1, [], by rw [List.append_nil]; exact (hq9 r u h).2⟩)⟩
theorem law_ofE {ans : Int32} {post0 : Int32 → S0 → Prop} {post9 : Int32 → S9 → Prop} (M0 : MetI l y0 w0y rm0 (.ref s0 :: av) (XE D cs wi) D d wc post0 w1) (M9 : MetI l y9 w9y rm9 (.ref a0 :: av) (XE D cs w0) D d wc9 post9 w19) (hb0 : RB rm0 = true) (hb9 : RB rm9 = true) (hp : ws.Perm (wc ++ wr)) (hi : ∀ q ∈ wi, q ∈ w0 ∨ q ∈ wr) (hp9 : wm.Perm (wc9 ++ wr9))
    (hq0 : ∀ r u, post0 r u → apw (w1 u ++ wr) → r = ans ∧ R' (w1 u ++ wr) wm') (hq9 : ∀ r u, post9 r u → r = ans ∧ (w19 u ++ wr9).Perm wm') : LawI l y0 w0y y9 w9y av D d cs w0 s0 a0 ws wm R' :=
  ⟨ans, wm', rm0, rm9, hb0, hb9, M0.fr2 hp (fun U sz hh => XE.frE hp hi U sz hh) (fun r u h ha => ⟨_, hq0 r u h ha, [], by rw [List.append_nil]⟩),
    M9.fr hp9 (fun U sz hh => XE.ok.fr hp9 U sz hh) (fun r u h => ⟨(), (hq9 r u h).1, [], by rw [List.append_nil]; exact (hq9 r u h).2⟩)⟩
theorem law_ofL {ans : Int64} {post0 : Int64 → S0 → Prop} {post9 : Int64 → S9 → Prop} (M0 : MetL l y0 w0y rm0 (.ref s0 :: av) (XI D cs wi) D d wc post0 w1) (M9 : MetL l y9 w9y rm9 (.ref a0 :: av) (XE D cs w0) D d wc9 post9 w19) (hb0 : RB rm0 = true) (hb9 : RB rm9 = true) (hp : ws.Perm (wc ++ wr)) (hi : ∀ q ∈ wi, q ∈ w0 ∨ q ∈ wr) (hp9 : wm.Perm (wc9 ++ wr9))
    (hq0 : ∀ r u, post0 r u → r = ans ∧ R' (w1 u ++ wr) wm') (hq9 : ∀ r u, post9 r u → r = ans ∧ (w19 u ++ wr9).Perm wm') : LawL l y0 w0y y9 w9y av D d cs w0 s0 a0 ws wm R' :=
  ⟨ans, wm', rm0, rm9, hb0, hb9, M0.fr hp (fun U sz hh => XE.frI hp hi U sz hh) (fun r u h => ⟨_, hq0 r u h, [], by rw [List.append_nil]⟩),
    M9.fr hp9 (fun U sz hh => XE.ok.fr hp9 U sz hh) (fun r u h => ⟨(), (hq9 r u h).1, [], by rw [List.append_nil]; exact (hq9 r u h).2⟩)⟩
end LAWOF
