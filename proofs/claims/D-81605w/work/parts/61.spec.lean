/-! THE PLAIN LAW 1: a house as a mathematical value, its minute -/
set_option maxRecDepth 100000
/-- dishes, floors, car, way, minute; room, rope; by dish: kind, how, at, to, weight, heat; rank -/
abbrev AH : Type := Nat × Nat × Nat × Nat × Nat × Int32 × Int32 × (Nat → Nat) × (Nat → Nat) × (Nat → Nat) × (Nat → Nat) × (Nat → Nat) × (Nat → Nat) × (Nat → Nat)
def zN (A : AH) : Nat := A.1
def zF (A : AH) : Nat := A.2.1
def zC (A : AH) : Nat := A.2.2.1
def zY (A : AH) : Nat := A.2.2.2.1
def zM (A : AH) : Nat := A.2.2.2.2.1
def zro (A : AH) : Int32 := A.2.2.2.2.2.1
def zrp (A : AH) : Int32 := A.2.2.2.2.2.2.1
def zK (A : AH) : Nat → Nat := A.2.2.2.2.2.2.2.1
def zH (A : AH) : Nat → Nat := A.2.2.2.2.2.2.2.2.1
def zA (A : AH) : Nat → Nat := A.2.2.2.2.2.2.2.2.2.1
def zT (A : AH) : Nat → Nat := A.2.2.2.2.2.2.2.2.2.2.1
def zX (A : AH) : Nat → Nat := A.2.2.2.2.2.2.2.2.2.2.2.1
def zG (A : AH) : Nat → Nat := A.2.2.2.2.2.2.2.2.2.2.2.2.1
def zQ (A : AH) : Nat → Nat := A.2.2.2.2.2.2.2.2.2.2.2.2.2
def mkH (N F C Y M : Nat) (ro rp : Int32) (K H A T X G Q : Nat → Nat) : AH := (N, F, C, Y, M, ro, rp, K, H, A, T, X, G, Q)
def nu (f : Nat → Nat) (k x : Nat) : Nat → Nat := fun j => if j = k then x else f j
theorem nu_same {f : Nat → Nat} {k x : Nat} : nu f k x k = x := by simp [nu]
theorem nu_ne {f : Nat → Nat} {k x j : Nat} (h : j ≠ k) : nu f k x j = f j := by simp [nu, h]
/-- served by the stop -/
def s1 (A : AH) : Nat → Nat := fun k => if zH A k ≠ 2 ∧ zT A k = zC A ∧ (zH A k = 1 ∨ zA A k = zC A) then 2 else zH A k
def ld (A : AH) (h : Nat → Nat) : Int32 := sm (zN A) (fun k => if h k = 1 then Int32.ofNat (zX A k) else 0)
def s2t (A : AH) (h : Nat → Nat) (d : Nat) : Nat → Nat := if h d = 0 ∧ zA A d = zC A ∧ ¬ (zro A ≤ Int32.ofNat (cn (zN A) (fun k => h k == 1))) ∧ ¬ (zrp A < ld A h + Int32.ofNat (zX A d)) then nu h d 1 else h
/-- those that get in, in their order -/
def s2 (A : AH) : Nat → (Nat → Nat)
  | 0 => s1 A
  | e + 1 => s2t A (s2 A e) (zQ A e)
def stA (A : AH) : AH := mkH (zN A) (zF A) (zC A) (zY A) (zM A) (zro A) (zrp A) (zK A) (s2 A (zN A)) (zA A) (zT A) (zX A) (zG A) (zQ A)
/-- floors that call, the car's own floor left out -/
def cs0 (A : AH) (f : Nat) : Bool := an (zN A) (fun d => (zH A d == 1 && zT A d == f) || (zH A d == 0 && (!decide (zrp A < Int32.ofNat (zX A d))) && zA A d == f))
def cst (A : AH) (f : Nat) : Bool := cs0 A f && f != zC A
def gU (A : AH) : Bool := an 9 (fun f => decide (zC A < f) && cst A f)
def gD (A : AH) : Bool := an 9 (fun f => decide (f < zC A) && cst A f)
def gW (A : AH) : Bool := gU A || gD A
def gY (A : AH) : Nat := if zY A = 1 then (if gU A then 1 else 0) else (if gD A then 0 else 1)
def goA (A : AH) : AH := if gW A then mkH (zN A) (zF A) (if gY A = 1 then zC A + 1 else zC A - 1) (gY A) (zM A) (zro A) (zrp A) (zK A) (zH A) (zA A) (zT A) (zX A) (zG A) (zQ A) else A
def hB (K M g : Nat) : Nat := if K ≤ 1 then g - 1 else if K = 2 then (if M % 2 = 0 then g else g - 1) else (if g + 1 < 60 then g + 1 else 60)
def wB (K x g : Nat) (mv : Bool) : Nat := if (K = 1 ∧ mv = true) ∨ (K = 4 ∧ 10 ≤ g) then (if x ≤ 1 then 1 else x - 1) else x
def cG (A : AH) : Nat → Nat := fun k => if zH A k = 2 then zG A k else hB (zK A k) (zM A) (zG A k)
def cX (A : AH) (w : Bool) : Nat → Nat := fun k => if zH A k = 2 then zX A k else wB (zK A k) (zX A k) (cG A k) (w && zH A k == 1)
def coA (A : AH) (w : Bool) : AH := mkH (zN A) (zF A) (zC A) (zY A) (zM A + 1) (zro A) (zrp A) (zK A) (zH A) (zA A) (zT A) (cX A w) (cG A) (zQ A)
/-- a minute -/
def pa (A : AH) : AH := coA (goA (stA A)) (gW (stA A))
/-- the ranges -/
def OK (A : AH) : Prop := zN A ≤ 6 ∧ zF A ≤ 9 ∧ zC A < zF A ∧ zY A ≤ 1 ∧ ∀ k, k < zN A → zK A k < 5 ∧ zH A k ≤ 2 ∧ zA A k < zF A ∧ zT A k < zF A ∧ 1 ≤ zX A k ∧ zX A k ≤ 9 ∧ zG A k ≤ 60 ∧ zQ A k < zN A
/-- the system's house shows it -/
def SR (ln : Nat → Option Int32) (lf : Nat → Nat → Option Nat) (dk : Nat → Option Nat) (v : HV) (A : AH) : Prop :=
  ln (Hla v) = some (Int32.ofNat (zN A)) ∧ Hfl v = Int32.ofNat (zF A) ∧ Hro v = zro A ∧ Hrp v = zrp A ∧ Hca v = Int32.ofNat (zC A) ∧ Hwy v = Int32.ofNat (zY A) ∧ Hmi v = Int32.ofNat (zM A) ∧
  ∀ k, k < zN A → HHO v k = Int32.ofNat (zH A k) ∧ HAT v k = Int32.ofNat (zA A k) ∧ HTO v k = Int32.ofNat (zT A k) ∧ HWE v k = Int32.ofNat (zX A k) ∧ HHE v k = Int32.ofNat (zG A k) ∧ HRA v k = Int32.ofNat (zQ A k) ∧ ∃ e, gX1_dish ln lf dk v (Int32.ofNat k) = some e ∧ dk e = some (zK A k)
/-- where it is, in one number -/
def pos (h a : Nat) : Nat := if h = 0 then a else h + 9
/-- the reference's numbers show it -/
def MR (w : Nat → Int32) (r : Nat) (A : AH) : Prop :=
  w (r + 0) = Int32.ofNat (zN A) ∧ w (r + 1) = Int32.ofNat (zF A) ∧ w (r + 2) = zro A ∧ w (r + 3) = zrp A ∧ w (r + 4) = Int32.ofNat (zC A) ∧ w (r + 5) = Int32.ofNat (zY A) ∧ w (r + 6) = Int32.ofNat (zM A) ∧
  ∀ k, k < zN A → w (r + 7 + k) = Int32.ofNat (zK A k + 1) ∧ w (r + 13 + k) = Int32.ofNat (pos (zH A k) (zA A k)) ∧ w (r + 19 + k) = Int32.ofNat (zT A k) ∧ w (r + 25 + k) = Int32.ofNat (zX A k) ∧ w (r + 31 + k) = Int32.ofNat (zG A k) ∧ w (r + 37 + k) = Int32.ofNat (zQ A k)
/-- nothing else is written -/
def FR (w w' : Nat → Int32) (r : Nat) : Prop := ∀ i, i < r ∨ r + 43 ≤ i → w' i = w i
