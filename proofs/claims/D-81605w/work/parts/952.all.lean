/-! READING ALL -/
set_option maxRecDepth 100000
theorem Wd.perm {D : va_G} {A : Nat → Prop} {s : State} {ws ws' : va_W} {H : Heap} {locs : List Loc} (hw : Wd D A s ws H locs) (hp : ws.Perm ws') : Wd D A s ws' H locs :=
  ⟨va_Pm.mpr (fun q hq => va_Pm.mp hw.1 q (hp.mem_iff.mpr hq)), va_Dm.mpr ⟨(va_Dm.mp hw.2.1).1.perm hp, fun q hq => (va_Dm.mp hw.2.1).2 q (hp.mem_iff.mpr hq)⟩, hw.2.2⟩
theorem rg_map (ws ds : va_W) : ∀ n : Nat, n = ws.length → (List.range' n ds.length).map (fun i => (ws ++ ds)[i]?) = ds.map some := by
  rintro _ rfl
  refine List.ext_getElem (by simp) (fun i h1 h2 => ?_)
  have h3 : i < ds.length := by simpa using h1
  simp [h3]
theorem nd_of (is : List Nat) (h : is.Nodup) : va_nd is = true := by
  induction is with
  | nil => rfl
  | cons a is ih =>
    have h := List.nodup_cons.mp h
    simp only [va_nd, Bool.and_eq_true]
    refine ⟨?_, ih h.2⟩
    simpa using h.1
theorem rg_nd (a n : Nat) : va_nd (List.range' a n) = true := nd_of _ List.nodup_range'
theorem rg_dis (a n : Nat) : ∀ i ∈ List.range' a n, i ∉ List.range a := by
  intro i hi hj
  have h1 := (List.mem_range'_1.mp hi).1
  have h2 := List.mem_range.mp hj
  omega
theorem rg_all (ws : va_W) : (List.range ws.length).map (fun i => ws[i]?) = ws.map some := by
  refine List.ext_getElem (by simp) (fun i h1 h2 => ?_)
  have h3 : i < ws.length := by simpa using h1
  simp [h3]
theorem rg_pre (wc wr : va_W) : (List.range wc.length).map (fun i => (wc ++ wr)[i]?) = wc.map some := by
  refine List.ext_getElem (by simp) (fun i h1 h2 => ?_)
  have h3 : i < wc.length := by simpa using h1
  simp [h3, List.getElem?_append_left h3]
theorem rg_nd0 (n : Nat) : va_nd (List.range n) = true := nd_of _ List.nodup_range
theorem va_up_get (das : List Nat) (u : Nat) : va_up (fun j => das[j]?) das.length (some u) = (fun j => (das ++ [u])[j]?) := by
  funext j
  unfold va_up
  split
  · next h => subst h; simp
  · next h =>
    rcases Nat.lt_or_ge j das.length with h1 | h1
    · exact (List.getElem?_append_left h1).symm
    · rw [List.getElem?_append_right h1]
      show das[j]? = _
      rw [List.getElem?_eq_none h1]
      have h2 : j - das.length ≠ 0 := by omega
      simp [h2]
theorem va_up_get1 (u : Nat) : va_up (fun _ => none) 0 (some u) = (fun j => [u][j]?) := va_up_get [] u
/-- the state of the reading: list's count, at to weight heat, reader, dishes -/
abbrev YY : Type := Int32 × (Nat → Int32) × (Nat → Int32) × (Nat → Int32) × (Nat → Int32) × Int32 × Int32 × Int32 × Int32 × List (Nat × Int32)
abbrev yLm (y : YY) : Int32 := y.1
abbrev yAT (y : YY) : Nat → Int32 := y.2.1
abbrev yTO (y : YY) : Nat → Int32 := y.2.2.1
abbrev yWE (y : YY) : Nat → Int32 := y.2.2.2.1
abbrev yHE (y : YY) : Nat → Int32 := y.2.2.2.2.1
abbrev yat (y : YY) : Int32 := y.2.2.2.2.2.1
abbrev ytk (y : YY) : Int32 := y.2.2.2.2.2.2.1
abbrev yfr (y : YY) : Int32 := y.2.2.2.2.2.2.2.1
abbrev yva (y : YY) : Int32 := y.2.2.2.2.2.2.2.2.1
abbrev yks (y : YY) : List (Nat × Int32) := y.2.2.2.2.2.2.2.2.2
abbrev DR : Type := Int32 × Int32 × (Nat → Int32) × (Nat → Int32) × (Nat → Int32) × (Nat → Int32) × Int32 × Int32 × Int32 × Int32 × Nat × Int32
/-- a state behind one more dish -/
def yn (q : DR) (ks : List (Nat × Int32)) : YY := (q.1, q.2.2.1, q.2.2.2.1, q.2.2.2.2.1, q.2.2.2.2.2.1, q.2.2.2.2.2.2.1, q.2.2.2.2.2.2.2.1, q.2.2.2.2.2.2.2.2.1, q.2.2.2.2.2.2.2.2.2.1, ks ++ [(q.2.2.2.2.2.2.2.2.2.2.1, q.2.2.2.2.2.2.2.2.2.2.2)])
def allB (mfl rz : Int32) (TA : Nat → Int32) (y : YY) : Option (YY ⊕ (YY ⊕ (Int32 × Int32))) :=
  if 10 ≤ (yks y).length then none else
  (fX12_sortOf (ytk y) (yva y)).bind fun q1 =>
  if q1 = -1000000 then
    (if ytk y = 0 then some 1 else some 0 : Option Int32).bind fun j =>
    (fX12_must (yfr y) j 1).bind fun r =>
    match r with
    | .inr e => some (.inr (.inr e))
    | .inl _ => some (.inr (.inl y))
  else
    (fX12_dish_1 mfl (yAT y) (yTO y) (yWE y) (yHE y) rz (yat y) (ytk y) (yfr y) (yva y) (yLm y) (Int32.ofNat (yks y).length) TA).bind fun r =>
    match r with
    | .inr e => some (.inr (.inr e))
    | .inl q => some (.inl (yn q (yks y)))
def allL (mfl : Int32) (AT TO WE HE : Nat → Int32) (rz rat rtk rfr rva lm : Int32) (TA : Nat → Int32) : Option (YY ⊕ (Int32 × Int32)) :=
  (fX12_sortOf rtk rva).bind fun q1 =>
  if q1 = -1000000 then none else
  (fX12_dish_0 mfl AT TO WE HE rz rat rtk rfr rva lm TA).bind fun r =>
  match r with
  | .inr e => some (.inr e)
  | .inl q => lp (allB mfl rz TA) 8 (yn q [])
def dsW (das : List Nat) (ks : List (Nat × Int32)) : va_W := List.zipWith (fun a k => (a, .inr (5 + k.1, [.int k.2]))) das ks
theorem dsW_snoc {das : List Nat} {ks : List (Nat × Int32)} (h : das.length = ks.length) (u : Nat) (k : Nat × Int32) : dsW (das ++ [u]) (ks ++ [k]) = dsW das ks ++ [(u, .inr (5 + k.1, [.int k.2]))] := List.zipWith_append h

theorem dish_0_of {mfl : Int32} {AT TO WE HE : Nat → Int32} {rz rat rtk rfr rva lm : Int32} {TA : Nat → Int32} {q : DR} (h : fX12_dish_0 mfl AT TO WE HE rz rat rtk rfr rva lm TA = some (.inl q)) : q.2.1 = 1 ∧ q.2.2.2.2.2.2.2.2.2.2.1 < 5 := by
  unfold fX12_dish_0 at h
  obtain ⟨_, -, h⟩ := op_e h
  obtain ⟨_, -, h⟩ := op_e h
  obtain ⟨r, -, h⟩ := op_e h
  rcases r with _ | _
  rotate_left
  · cases h
  obtain ⟨r, -, h⟩ := op_e h
  rcases r with _ | _
  rotate_left
  · cases h
  obtain ⟨_, -, h⟩ := op_e h
  obtain ⟨r, -, h⟩ := op_e h
  rcases r with _ | _
  rotate_left
  · cases h
  obtain ⟨_, -, h⟩ := op_e h
  obtain ⟨r, -, h⟩ := op_e h
  rcases r with _ | _
  rotate_left
  · cases h
  obtain ⟨_, -, h⟩ := op_e h
  obtain ⟨r, -, h⟩ := op_e h
  rcases r with _ | _
  rotate_left
  · cases h
  obtain ⟨_, -, h⟩ := op_e h
  obtain ⟨k, hk, h⟩ := op_e h
  obtain ⟨r, -, h⟩ := op_e h
  rcases r with _ | _
  rotate_left
  · cases h
  have h := Sum.inl.inj (sm_e h)
  subst h
  exact ⟨rfl, dishBy_lt hk⟩
theorem dish_1_of {mfl : Int32} {AT TO WE HE : Nat → Int32} {rz rat rtk rfr rva lm lN : Int32} {TA : Nat → Int32} {q : DR} (h : fX12_dish_1 mfl AT TO WE HE rz rat rtk rfr rva lm lN TA = some (.inl q)) : q.2.1 = (lN + 1) ∧ q.2.2.2.2.2.2.2.2.2.2.1 < 5 := by
  unfold fX12_dish_1 at h
  obtain ⟨_, -, h⟩ := op_e h
  obtain ⟨_, -, h⟩ := op_e h
  obtain ⟨r, -, h⟩ := op_e h
  rcases r with _ | _
  rotate_left
  · cases h
  obtain ⟨r, -, h⟩ := op_e h
  rcases r with _ | _
  rotate_left
  · cases h
  obtain ⟨_, -, h⟩ := op_e h
  obtain ⟨r, -, h⟩ := op_e h
  rcases r with _ | _
  rotate_left
  · cases h
  obtain ⟨_, -, h⟩ := op_e h
  obtain ⟨r, -, h⟩ := op_e h
  rcases r with _ | _
  rotate_left
  · cases h
  obtain ⟨_, -, h⟩ := op_e h
  obtain ⟨r, -, h⟩ := op_e h
  rcases r with _ | _
  rotate_left
  · cases h
  obtain ⟨_, -, h⟩ := op_e h
  obtain ⟨k, hk, h⟩ := op_e h
  obtain ⟨_, -, h⟩ := op_e h
  obtain ⟨r, -, h⟩ := op_e h
  rcases r with _ | _
  rotate_left
  · cases h
  have h := Sum.inl.inj (sm_e h)
  subst h
  exact ⟨rfl, dishBy_lt hk⟩
/-- the world while the list grows: its array, its dishes -/
def wL (d : Nat → ClassId) (sa ma : Nat → Nat) (ra mla ea : Nat) (rz mfl mro mrp mca mwy mmi mtf : Int32) (mtk : Option Nat) (mHO mRA TA : Nat → Int32) (y : YY) (das : List Nat) : va_W :=
  [(ra, .inr (11, [.ref (sa 2), .int rz, .int (yat y), .int (ytk y), .int (yfr y), .int (yva y), .ref (ma 0)])), ((sa 2), .inl (d 1, 110, .inl TA))] ++ ([(mla, .inr (3, [.int (yLm y), .ref ea, .int (Int32.ofNat (yks y).length)])), (ea, .inl (d 6, 10, .inr (.inr (.inr (.inr (fun j => das[j]?)))))), oH ma mfl mro mrp mca mwy mla mmi mtf mtk, ((ma 1), .inl (d 0, 6, .inl mHO)), ((ma 2), .inl (d 0, 6, .inl (yAT y))), ((ma 3), .inl (d 0, 6, .inl (yTO y))), ((ma 4), .inl (d 0, 6, .inl (yWE y))), ((ma 5), .inl (d 0, 6, .inl (yHE y))), ((ma 6), .inl (d 0, 6, .inl mRA))] ++ dsW das (yks y))
theorem perm_grow {α : Type} (ds R L : List α) (x : α) : (ds ++ (L ++ R ++ [x])).Perm (R ++ (L ++ (ds ++ [x]))) := by
  have h1 : (ds ++ (L ++ R ++ [x])).Perm ((L ++ R ++ [x]) ++ ds) := List.perm_append_comm
  have h2 : (L ++ R ++ [x] ++ ds).Perm (R ++ L ++ [x] ++ ds) := (List.perm_append_comm.append_right _).append_right _
  have h3 : (R ++ L ++ [x] ++ ds).Perm (R ++ (L ++ (ds ++ [x]))) := by
    rw [List.append_assoc, List.append_assoc]
    exact List.Perm.append_left R (List.Perm.append_left L List.perm_append_comm)
  exact h1.trans (h2.trans h3)
theorem toClamp {n : Nat} (h : n < 10) : (Int32.ofNat n).toNatClampNeg = n := by
  have h2 : ∀ k : Nat, k < 10 → (Int32.ofNat k).toNatClampNeg = k := by decide +kernel
  exact h2 n h
set_option maxHeartbeats 4000000 in
theorem all_loop_ret {p : Program} {l : Launch} {e : Env} {s : State} {m : MethodId} {args : Array Value} {below : List Frame} {meth : Method} {c : Code} {D : va_G} {d : Nat → ClassId} {A : Nat → Prop} {cs : Nat → Nat} {wi : va_W} (ln : Nat → Option Int32) (lf : Nat → Nat → Option Nat) (dk : Nat → Option Nat) (dn : Nat → Int32) (him : ImF d wi ln lf dk dn) (hstr : StrF d cs wi) (hemp : EmpF d cs wi) (sa ma : Nat → Nat) (ra mla : Nat) (rz mfl mro mrp mca mwy mmi mtf : Int32) (mtk : Option Nat) (mHO mRA TA : Nat → Int32) (yr : YY) (cx : Cx p s m args meth c (XI D cs wi) D d A "DishLift$Reader" cX12_all 2 none "all") (n : Nat) : ∀ (y : YY) (ea : Nat) (das : List Nat) (H : Heap) (locs : List Loc) (ls : Array Slot) (cells slots : Nat), das.length = (yks y).length → (∀ k ∈ yks y, k.1 < 5) → cells + 2 * n + 1 ≤ 24 → slots + 11 * n + 8 ≤ 160 → lp (allB mfl rz TA) n y = some (.inl yr) → Wd D A s (wL d sa ma ra mla ea rz mfl mro mrp mca mwy mmi mtf mtk mHO mRA TA y das) H locs → lv_has ls 2 [(0, .ref ra)] →
    W p l e { frames := 8, cells := 24, slots := 160, locals := 220 } s m args below meth c H locs cells slots (MQ below (va_Qv (fun (u : Nat × List Nat) => u.2.length = (yks yr).length ∧ ∀ k ∈ yks yr, k.1 < 5) (fun u t => posW D (wL d sa ma ra mla u.1 rz mfl mro mrp mca mwy mmi mtf mtk mHO mRA TA yr u.2) A t) A) args s 24 160 A) (F0 m 88 ls []) := by
  have cx' := cx
  obtain ⟨hx, hb, hr, hlk, hml, hown, hts, hK, hA, hXs, hnm⟩ := cx'
  have hX := XI.ok (D := D) (cs := cs) (wi := wi)
  induction n with
  | zero => intro y ea das H locs ls cells slots _ _ _ _ hf; cases hf
  | succ n ih =>
    intro y ea das H locs ls cells slots hlen hk5 hcc hss hf hw hl
    obtain ⟨qq, h1, h2⟩ := op_e hf
    have hf := h1
    unfold allB at hf
    by_cases h10 : 10 ≤ (yks y).length
    · have hf := if_t hf h10; cases hf
    have hf := if_f hf h10
    have hw : Wd D A s ((ra, .inr (11, [.ref (sa 2), .int rz, .int (yat y), .int (ytk y), .int (yfr y), .int (yva y), .ref (ma 0)])) :: (((sa 2), .inl (d 1, 110, .inl TA)) :: ([(mla, .inr (3, [.int (yLm y), .ref ea, .int (Int32.ofNat (yks y).length)])), (ea, .inl (d 6, 10, .inr (.inr (.inr (.inr (fun j => das[j]?)))))), oH ma mfl mro mrp mca mwy mla mmi mtf mtk, ((ma 1), .inl (d 0, 6, .inl mHO)), ((ma 2), .inl (d 0, 6, .inl (yAT y))), ((ma 3), .inl (d 0, 6, .inl (yTO y))), ((ma 4), .inl (d 0, 6, .inl (yWE y))), ((ma 5), .inl (d 0, 6, .inl (yHE y))), ((ma 6), .inl (d 0, 6, .inl mRA))] ++ dsW das (yks y)))) H locs := hw
    refine lv_aload_n hx hb dX12_all_88 rfl (lv_at hl 0 rfl) ?_
    refine va_ldcS hx hb hown hXs.2.1.2.2.2.2.2 dX12_all_89 ?_
    obtain ⟨q1, hcq1, hf⟩ := op_e hf
    refine x_VI (wr := (((sa 2), .inl (d 1, 110, .inl TA)) :: ([(mla, .inr (3, [.int (yLm y), .ref ea, .int (Int32.ofNat (yks y).length)])), (ea, .inl (d 6, 10, .inr (.inr (.inr (.inr (fun j => das[j]?)))))), oH ma mfl mro mrp mca mwy mla mmi mtf mtk, ((ma 1), .inl (d 0, 6, .inl mHO)), ((ma 2), .inl (d 0, 6, .inl (yAT y))), ((ma 3), .inl (d 0, 6, .inl (yTO y))), ((ma 4), .inl (d 0, 6, .inl (yWE y))), ((ma 5), .inl (d 0, 6, .inl (yHE y))), ((ma 6), .inl (d 0, 6, .inl mRA))] ++ dsW das (yks y)))) (rest := []) [.ref (cs 1)] hX cx hw hl.1 (mX12_sortOf l D d cs wi ln lf dk dn him ra sa ma rz (yat y) (ytk y) (yfr y) (yva y) hstr q1 hcq1) (lw_V q603 q605 qs11 q104 q606) hd_X12_sortOf ⟨(Nat.le_of_ble_eq_true rfl), (Nat.le_of_ble_eq_true rfl)⟩ (va_recv hK hw.1 (ci := 11) (q0 := 0) rfl rfl) rfl rfl (Nat.le_of_ble_eq_true rfl) dX12_all_91 [0] (List.range' 1 ((((sa 2), .inl (d 1, 110, .inl TA)) :: ([(mla, .inr (3, [.int (yLm y), .ref ea, .int (Int32.ofNat (yks y).length)])), (ea, .inl (d 6, 10, .inr (.inr (.inr (.inr (fun j => das[j]?)))))), oH ma mfl mro mrp mca mwy mla mmi mtf mtk, ((ma 1), .inl (d 0, 6, .inl mHO)), ((ma 2), .inl (d 0, 6, .inl (yAT y))), ((ma 3), .inl (d 0, 6, .inl (yTO y))), ((ma 4), .inl (d 0, 6, .inl (yWE y))), ((ma 5), .inl (d 0, 6, .inl (yHE y))), ((ma 6), .inl (d 0, 6, .inl mRA))] ++ dsW das (yks y))).length)) rfl rfl (rg_map [(ra, .inr (11, [.ref (sa 2), .int rz, .int (yat y), .int (ytk y), .int (yfr y), .int (yva y), .ref (ma 0)]))] (((sa 2), .inl (d 1, 110, .inl TA)) :: ([(mla, .inr (3, [.int (yLm y), .ref ea, .int (Int32.ofNat (yks y).length)])), (ea, .inl (d 6, 10, .inr (.inr (.inr (.inr (fun j => das[j]?)))))), oH ma mfl mro mrp mca mwy mla mmi mtf mtk, ((ma 1), .inl (d 0, 6, .inl mHO)), ((ma 2), .inl (d 0, 6, .inl (yAT y))), ((ma 3), .inl (d 0, 6, .inl (yTO y))), ((ma 4), .inl (d 0, 6, .inl (yWE y))), ((ma 5), .inl (d 0, 6, .inl (yHE y))), ((ma 6), .inl (d 0, 6, .inl mRA))] ++ dsW das (yks y))) 1 rfl) (rg_nd _ _) (by intro i hi hj; exact rg_dis 1 _ i hi hj) ⟨by dsimp only; omega, by dsimp only; omega⟩ (fun r u H locs hp hw => ?_)
    subst r
    have hw : Wd D A s ((ra, .inr (11, [.ref (sa 2), .int rz, .int (yat y), .int (ytk y), .int (yfr y), .int (yva y), .ref (ma 0)])) :: (((sa 2), .inl (d 1, 110, .inl TA)) :: ([(mla, .inr (3, [.int (yLm y), .ref ea, .int (Int32.ofNat (yks y).length)])), (ea, .inl (d 6, 10, .inr (.inr (.inr (.inr (fun j => das[j]?)))))), oH ma mfl mro mrp mca mwy mla mmi mtf mtk, ((ma 1), .inl (d 0, 6, .inl mHO)), ((ma 2), .inl (d 0, 6, .inl (yAT y))), ((ma 3), .inl (d 0, 6, .inl (yTO y))), ((ma 4), .inl (d 0, 6, .inl (yWE y))), ((ma 5), .inl (d 0, 6, .inl (yHE y))), ((ma 6), .inl (d 0, 6, .inl mRA))] ++ dsW das (yks y)))) H locs := hw.perm List.perm_append_comm
    refine lv_ldc (v := (-1000000)) hx hb hown (hts _ q553) dX12_all_94 ?_
    refine lv_icmp_eq (tgt := 106) hx hb dX12_all_96 (by decide) (fun c96 => ?_) (fun c96 => ?_)
    · have hf := if_t hf c96
      refine lv_aload_n hx hb dX12_all_106 rfl (lv_at hl 0 rfl) ?_
      refine lv_aload_n hx hb dX12_all_107 rfl (lv_at hl 0 rfl) ?_
      refine va_get (ci := 11) (C := RX12) (T := TX12) (N := 7) hx hb hts in_X12 hown hK hw.1 0 rfl rfl 3 (by decide) (hts _ q521) (fun _ h9 => h9) rfl dX12_all_108 ?_
      obtain ⟨j, hj, hf⟩ := op_e hf
      have key : ∀ (ls : Array Slot), lv_has ls 2 [(0, .ref ra)] → W p l e { frames := 8, cells := 24, slots := 160, locals := 220 } s m args below meth c H locs cells slots (MQ below (va_Qv (fun (u : Nat × List Nat) => u.2.length = (yks yr).length ∧ ∀ k ∈ yks yr, k.1 < 5) (fun u t => posW D (wL d sa ma ra mla u.1 rz mfl mro mrp mca mwy mmi mtf mtk mHO mRA TA yr u.2) A t) A) args s 24 160 A) (F0 m 119 ls [.int j, .ref ra]) := by
        intro ls hl
        refine lv_iconst (v := 1) hx hb dX12_all_119 (by decide) ?_
        obtain ⟨r3, hcr3, hf⟩ := op_e hf
        rcases r3 with q4 | e5
        · have hf := sm_e hf
          subst hf
          have h2 := Sum.inl.inj (sm_e h2)
          subst h2
          refine x_VV (wr := (((sa 2), .inl (d 1, 110, .inl TA)) :: ([(mla, .inr (3, [.int (yLm y), .ref ea, .int (Int32.ofNat (yks y).length)])), (ea, .inl (d 6, 10, .inr (.inr (.inr (.inr (fun j => das[j]?)))))), oH ma mfl mro mrp mca mwy mla mmi mtf mtk, ((ma 1), .inl (d 0, 6, .inl mHO)), ((ma 2), .inl (d 0, 6, .inl (yAT y))), ((ma 3), .inl (d 0, 6, .inl (yTO y))), ((ma 4), .inl (d 0, 6, .inl (yWE y))), ((ma 5), .inl (d 0, 6, .inl (yHE y))), ((ma 6), .inl (d 0, 6, .inl mRA))] ++ dsW das (yks y)))) (rest := []) [.int j, .int 1] hX cx hw hl.1 (mX12_must l D d cs wi ln lf dk dn him ra sa ma rz (yat y) (ytk y) (yfr y) (yva y) j 1 q4 hcr3) (lw_V q563 q565 qs7 q104 q566) hd_X12_must ⟨(Nat.le_of_ble_eq_true rfl), (Nat.le_of_ble_eq_true rfl)⟩ (va_recv hK hw.1 (ci := 11) (q0 := 0) rfl rfl) rfl rfl (Nat.le_of_ble_eq_true rfl) dX12_all_120 [0] (List.range' 1 ((((sa 2), .inl (d 1, 110, .inl TA)) :: ([(mla, .inr (3, [.int (yLm y), .ref ea, .int (Int32.ofNat (yks y).length)])), (ea, .inl (d 6, 10, .inr (.inr (.inr (.inr (fun j => das[j]?)))))), oH ma mfl mro mrp mca mwy mla mmi mtf mtk, ((ma 1), .inl (d 0, 6, .inl mHO)), ((ma 2), .inl (d 0, 6, .inl (yAT y))), ((ma 3), .inl (d 0, 6, .inl (yTO y))), ((ma 4), .inl (d 0, 6, .inl (yWE y))), ((ma 5), .inl (d 0, 6, .inl (yHE y))), ((ma 6), .inl (d 0, 6, .inl mRA))] ++ dsW das (yks y))).length)) rfl rfl (rg_map [(ra, .inr (11, [.ref (sa 2), .int rz, .int (yat y), .int (ytk y), .int (yfr y), .int (yva y), .ref (ma 0)]))] (((sa 2), .inl (d 1, 110, .inl TA)) :: ([(mla, .inr (3, [.int (yLm y), .ref ea, .int (Int32.ofNat (yks y).length)])), (ea, .inl (d 6, 10, .inr (.inr (.inr (.inr (fun j => das[j]?)))))), oH ma mfl mro mrp mca mwy mla mmi mtf mtk, ((ma 1), .inl (d 0, 6, .inl mHO)), ((ma 2), .inl (d 0, 6, .inl (yAT y))), ((ma 3), .inl (d 0, 6, .inl (yTO y))), ((ma 4), .inl (d 0, 6, .inl (yWE y))), ((ma 5), .inl (d 0, 6, .inl (yHE y))), ((ma 6), .inl (d 0, 6, .inl mRA))] ++ dsW das (yks y))) 1 rfl) (rg_nd _ _) (by intro i hi hj; exact rg_dis 1 _ i hi hj) ⟨by dsimp only; omega, by dsimp only; omega⟩ (fun u H locs hp hw => ?_)
          have hw : Wd D A s ((ra, .inr (11, [.ref (sa 2), .int rz, .int (yat y), .int (ytk y), .int (yfr y), .int (yva y), .ref (ma 0)])) :: (((sa 2), .inl (d 1, 110, .inl TA)) :: ([(mla, .inr (3, [.int (yLm y), .ref ea, .int (Int32.ofNat (yks y).length)])), (ea, .inl (d 6, 10, .inr (.inr (.inr (.inr (fun j => das[j]?)))))), oH ma mfl mro mrp mca mwy mla mmi mtf mtk, ((ma 1), .inl (d 0, 6, .inl mHO)), ((ma 2), .inl (d 0, 6, .inl (yAT y))), ((ma 3), .inl (d 0, 6, .inl (yTO y))), ((ma 4), .inl (d 0, 6, .inl (yWE y))), ((ma 5), .inl (d 0, 6, .inl (yHE y))), ((ma 6), .inl (d 0, 6, .inl mRA))] ++ dsW das (yks y)))) H locs := hw.perm List.perm_append_comm
          have hw : Wd D A s (wL d sa ma ra mla ea rz mfl mro mrp mca mwy mmi mtf mtk mHO mRA TA y das) H locs := hw
          exact x_retV (w1 := fun (u : Nat × List Nat) => wL d sa ma ra mla u.1 rz mfl mro mrp mca mwy mmi mtf mtk mHO mRA TA y u.2) cx hw (ea, das) ⟨hlen, hk5⟩ (List.range (wL d sa ma ra mla ea rz mfl mro mrp mca mwy mmi mtf mtk mHO mRA TA y das).length) (rg_nd0 _) (rg_all _) (by dsimp only; omega) (by dsimp only; omega) dX12_all_123
        · have hf := sm_e hf
          subst hf
          cases h2
      refine lv_if_ne (tgt := 118) hx hb dX12_all_111 (by decide) (fun c => ?_) (fun c => ?_)
      · have hj := if_f hj (fun h => c h)
        have hj := sm_e hj
        subst hj
        refine lv_iconst (v := 0) hx hb dX12_all_118 (by decide) ?_
        exact key ls hl
      · have hj := if_t hj c
        have hj := sm_e hj
        subst hj
        refine lv_iconst (v := 1) hx hb dX12_all_114 (by decide) ?_
        refine lv_goto (tgt := 119) hx hb dX12_all_115 (by decide) ?_
        exact key ls hl
    · have hf := if_f hf c96
      refine lv_aload_n hx hb dX12_all_99 rfl (lv_at hl 0 rfl) ?_
      obtain ⟨r3, hcr3, hf⟩ := op_e hf
      have hw : Wd D A s (([(ra, .inr (11, [.ref (sa 2), .int rz, .int (yat y), .int (ytk y), .int (yfr y), .int (yva y), .ref (ma 0)])), ((sa 2), .inl (d 1, 110, .inl TA))] ++ [(mla, .inr (3, [.int (yLm y), .ref ea, .int (Int32.ofNat (yks y).length)])), (ea, .inl (d 6, 10, .inr (.inr (.inr (.inr (fun j => das[j]?)))))), oH ma mfl mro mrp mca mwy mla mmi mtf mtk, ((ma 1), .inl (d 0, 6, .inl mHO)), ((ma 2), .inl (d 0, 6, .inl (yAT y))), ((ma 3), .inl (d 0, 6, .inl (yTO y))), ((ma 4), .inl (d 0, 6, .inl (yWE y))), ((ma 5), .inl (d 0, 6, .inl (yHE y))), ((ma 6), .inl (d 0, 6, .inl mRA))]) ++ dsW das (yks y)) H locs := hw
      have hw : Wd D A s (([(mla, .inr (3, [.int (yLm y), .ref ea, .int (Int32.ofNat (yks y).length)])), (ea, .inl (d 6, 10, .inr (.inr (.inr (.inr (fun j => das[j]?)))))), oH ma mfl mro mrp mca mwy mla mmi mtf mtk, ((ma 1), .inl (d 0, 6, .inl mHO)), ((ma 2), .inl (d 0, 6, .inl (yAT y))), ((ma 3), .inl (d 0, 6, .inl (yTO y))), ((ma 4), .inl (d 0, 6, .inl (yWE y))), ((ma 5), .inl (d 0, 6, .inl (yHE y))), ((ma 6), .inl (d 0, 6, .inl mRA))] ++ [(ra, .inr (11, [.ref (sa 2), .int rz, .int (yat y), .int (ytk y), .int (yfr y), .int (yva y), .ref (ma 0)])), ((sa 2), .inl (d 1, 110, .inl TA))]) ++ dsW das (yks y)) H locs := hw.perm ((List.perm_append_comm (l₁ := [(ra, .inr (11, [.ref (sa 2), .int rz, .int (yat y), .int (ytk y), .int (yfr y), .int (yva y), .ref (ma 0)])), ((sa 2), .inl (d 1, 110, .inl TA))]) (l₂ := [(mla, .inr (3, [.int (yLm y), .ref ea, .int (Int32.ofNat (yks y).length)])), (ea, .inl (d 6, 10, .inr (.inr (.inr (.inr (fun j => das[j]?)))))), oH ma mfl mro mrp mca mwy mla mmi mtf mtk, ((ma 1), .inl (d 0, 6, .inl mHO)), ((ma 2), .inl (d 0, 6, .inl (yAT y))), ((ma 3), .inl (d 0, 6, .inl (yTO y))), ((ma 4), .inl (d 0, 6, .inl (yWE y))), ((ma 5), .inl (d 0, 6, .inl (yHE y))), ((ma 6), .inl (d 0, 6, .inl mRA))])).append_right (dsW das (yks y)))
      rcases r3 with q4 | e5
      · refine x_VV (wr := dsW das (yks y)) (rest := []) [] hX cx hw hl.1 (mX12_dish_1 l D d cs wi ln lf dk dn him ma ra mla ea sa mfl mro mrp mca mwy mmi mtf mtk mHO (yAT y) (yTO y) (yWE y) (yHE y) mRA rz (yat y) (ytk y) (yfr y) (yva y) (yLm y) (Int32.ofNat (yks y).length) (fun j => das[j]?) TA hstr hemp q4 hcr3) (lw_V q658 q660 qs12 q104 q661) hd_X12_dish ⟨(Nat.le_of_ble_eq_true rfl), (Nat.le_of_ble_eq_true rfl)⟩ (va_recv hK hw.1 (ci := 11) (q0 := 9) rfl rfl) rfl rfl (Nat.le_of_ble_eq_true rfl) dX12_all_100 (List.range 11) (List.range' 11 (dsW das (yks y)).length) (by decide) rfl (rg_map ([(mla, .inr (3, [.int (yLm y), .ref ea, .int (Int32.ofNat (yks y).length)])), (ea, .inl (d 6, 10, .inr (.inr (.inr (.inr (fun j => das[j]?)))))), oH ma mfl mro mrp mca mwy mla mmi mtf mtk, ((ma 1), .inl (d 0, 6, .inl mHO)), ((ma 2), .inl (d 0, 6, .inl (yAT y))), ((ma 3), .inl (d 0, 6, .inl (yTO y))), ((ma 4), .inl (d 0, 6, .inl (yWE y))), ((ma 5), .inl (d 0, 6, .inl (yHE y))), ((ma 6), .inl (d 0, 6, .inl mRA))] ++ [(ra, .inr (11, [.ref (sa 2), .int rz, .int (yat y), .int (ytk y), .int (yfr y), .int (yva y), .ref (ma 0)])), ((sa 2), .inl (d 1, 110, .inl TA))]) (dsW das (yks y)) 11 rfl) (rg_nd _ _) (rg_dis 11 _) ⟨by dsimp only; omega, by dsimp only; omega⟩ (fun a8 H locs hp hw => ?_)
        obtain ⟨hN1, hk1⟩ := dish_1_of hcr3
        have hf := sm_e hf
        subst hf
        have hl0 : (yks (yn q4 (yks y))).length = (yks y).length + 1 := by show (yks y ++ [_]).length = _; simp
        have hl1 : (das ++ [a8]).length = (yks (yn q4 (yks y))).length := by rw [hl0, ← hlen]; simp
        have hk6 : ∀ k ∈ yks (yn q4 (yks y)), k.1 < 5 := fun k hk => (List.mem_append.mp hk).elim (hk5 k) (fun hk => by rw [List.mem_singleton.mp hk]; exact hk1)
        have en : (Int32.ofNat (yks y).length).toNatClampNeg = das.length := by rw [hlen]; exact toClamp (by omega)
        have eN : q4.2.1 = Int32.ofNat (yks (yn q4 (yks y))).length := by rw [hN1, hl0]; exact (Int32.ofNat_add _ _).symm
        refine W.eq (g2 := F0 m 103 ls []) rfl ?_
        refine lv_goto (tgt := 88) hx hb dX12_all_103 (by decide) ?_
        rw [en, va_up_get] at hw
        rw [eN] at hw
        refine ih (yn q4 (yks y)) ea (das ++ [a8]) H locs ls (cells + 2) (slots + 11) hl1 hk6 (by omega) (by omega) h2 ?_ hl
        have e9 : dsW (das ++ [a8]) (yks (yn q4 (yks y))) = dsW das (yks y) ++ [(a8, .inr (5 + q4.2.2.2.2.2.2.2.2.2.2.1, [.int q4.2.2.2.2.2.2.2.2.2.2.2]))] := dsW_snoc hlen _ _
        unfold wL
        rw [e9]
        refine hw.perm ?_
        exact perm_grow (dsW das (yks y)) [(ra, .inr (11, [.ref (sa 2), .int rz, .int (yat (yn q4 (yks y))), .int (ytk (yn q4 (yks y))), .int (yfr (yn q4 (yks y))), .int (yva (yn q4 (yks y))), .ref (ma 0)])), ((sa 2), .inl (d 1, 110, .inl TA))] [(mla, .inr (3, [.int (yLm (yn q4 (yks y))), .ref ea, .int (Int32.ofNat (yks (yn q4 (yks y))).length)])), (ea, .inl (d 6, 10, .inr (.inr (.inr (.inr (fun j => (das ++ [a8])[j]?)))))), oH ma mfl mro mrp mca mwy mla mmi mtf mtk, ((ma 1), .inl (d 0, 6, .inl mHO)), ((ma 2), .inl (d 0, 6, .inl (yAT (yn q4 (yks y))))), ((ma 3), .inl (d 0, 6, .inl (yTO (yn q4 (yks y))))), ((ma 4), .inl (d 0, 6, .inl (yWE (yn q4 (yks y))))), ((ma 5), .inl (d 0, 6, .inl (yHE (yn q4 (yks y))))), ((ma 6), .inl (d 0, 6, .inl mRA))] (a8, .inr (5 + q4.2.2.2.2.2.2.2.2.2.2.1, [.int q4.2.2.2.2.2.2.2.2.2.2.2]))
      · have hf := sm_e hf
        subst hf
        cases h2
set_option maxHeartbeats 4000000 in
theorem all_loop_thr {p : Program} {l : Launch} {e : Env} {s : State} {m : MethodId} {args : Array Value} {below : List Frame} {meth : Method} {c : Code} {D : va_G} {d : Nat → ClassId} {A : Nat → Prop} {cs : Nat → Nat} {wi : va_W} (ln : Nat → Option Int32) (lf : Nat → Nat → Option Nat) (dk : Nat → Option Nat) (dn : Nat → Int32) (him : ImF d wi ln lf dk dn) (hstr : StrF d cs wi) (hemp : EmpF d cs wi) (sa ma : Nat → Nat) (ra mla : Nat) (rz mfl mro mrp mca mwy mmi mtf : Int32) (mtk : Option Nat) (mHO mRA TA : Nat → Int32) (er : Int32 × Int32) (cx : Cx p s m args meth c (XI D cs wi) D d A "DishLift$Reader" cX12_all 2 none "all") (hET : ∀ x ∈ c.exceptionTable.toList, False) (n : Nat) : ∀ (y : YY) (ea : Nat) (das : List Nat) (H : Heap) (locs : List Loc) (ls : Array Slot) (cells slots : Nat), das.length = (yks y).length → (∀ k ∈ yks y, k.1 < 5) → cells + 2 * n + 1 ≤ 24 → slots + 11 * n + 8 ≤ 160 → lp (allB mfl rz TA) n y = some (.inr er) → Wd D A s (wL d sa ma ra mla ea rz mfl mro mrp mca mwy mmi mtf mtk mHO mRA TA y das) H locs → lv_has ls 2 [(0, .ref ra)] →
    W p l e { frames := 8, cells := 24, slots := 160, locals := 220 } s m args below meth c H locs cells slots (vx_MQ below (va_Qv (fun (_ : Unit) => False) (fun _ _ => True) A) (vx_X (fun _ : Unit => True) (fun E q u t => E = "DishLift$Fault" ∧ posW D ((fun q9 (_ : Unit) => [((sa 2), .inl (d 1, 110, .inl TA)), (q9, .inr (13, [.null, .null, .null, .null, .null, .int 0, .int er.1, .int er.2]))]) q u) A t) A) args s 24 160 A) (F0 m 88 ls []) := by
  have cx' := cx
  obtain ⟨hx, hb, hr, hlk, hml, hown, hts, hK, hA, hXs, hnm⟩ := cx'
  have hX := XI.ok (D := D) (cs := cs) (wi := wi)
  induction n with
  | zero => intro y ea das H locs ls cells slots _ _ _ _ hf; cases hf
  | succ n ih =>
    intro y ea das H locs ls cells slots hlen hk5 hcc hss hf hw hl
    obtain ⟨qq, h1, h2⟩ := op_e hf
    have hf := h1
    unfold allB at hf
    by_cases h10 : 10 ≤ (yks y).length
    · have hf := if_t hf h10; cases hf
    have hf := if_f hf h10
    have hw : Wd D A s ((ra, .inr (11, [.ref (sa 2), .int rz, .int (yat y), .int (ytk y), .int (yfr y), .int (yva y), .ref (ma 0)])) :: (((sa 2), .inl (d 1, 110, .inl TA)) :: ([(mla, .inr (3, [.int (yLm y), .ref ea, .int (Int32.ofNat (yks y).length)])), (ea, .inl (d 6, 10, .inr (.inr (.inr (.inr (fun j => das[j]?)))))), oH ma mfl mro mrp mca mwy mla mmi mtf mtk, ((ma 1), .inl (d 0, 6, .inl mHO)), ((ma 2), .inl (d 0, 6, .inl (yAT y))), ((ma 3), .inl (d 0, 6, .inl (yTO y))), ((ma 4), .inl (d 0, 6, .inl (yWE y))), ((ma 5), .inl (d 0, 6, .inl (yHE y))), ((ma 6), .inl (d 0, 6, .inl mRA))] ++ dsW das (yks y)))) H locs := hw
    refine lv_aload_n hx hb dX12_all_88 rfl (lv_at hl 0 rfl) ?_
    refine va_ldcS hx hb hown hXs.2.1.2.2.2.2.2 dX12_all_89 ?_
    obtain ⟨q1, hcq1, hf⟩ := op_e hf
    refine x_VI (wr := (((sa 2), .inl (d 1, 110, .inl TA)) :: ([(mla, .inr (3, [.int (yLm y), .ref ea, .int (Int32.ofNat (yks y).length)])), (ea, .inl (d 6, 10, .inr (.inr (.inr (.inr (fun j => das[j]?)))))), oH ma mfl mro mrp mca mwy mla mmi mtf mtk, ((ma 1), .inl (d 0, 6, .inl mHO)), ((ma 2), .inl (d 0, 6, .inl (yAT y))), ((ma 3), .inl (d 0, 6, .inl (yTO y))), ((ma 4), .inl (d 0, 6, .inl (yWE y))), ((ma 5), .inl (d 0, 6, .inl (yHE y))), ((ma 6), .inl (d 0, 6, .inl mRA))] ++ dsW das (yks y)))) (rest := []) [.ref (cs 1)] hX cx hw hl.1 (mX12_sortOf l D d cs wi ln lf dk dn him ra sa ma rz (yat y) (ytk y) (yfr y) (yva y) hstr q1 hcq1) (lw_V q603 q605 qs11 q104 q606) hd_X12_sortOf ⟨(Nat.le_of_ble_eq_true rfl), (Nat.le_of_ble_eq_true rfl)⟩ (va_recv hK hw.1 (ci := 11) (q0 := 0) rfl rfl) rfl rfl (Nat.le_of_ble_eq_true rfl) dX12_all_91 [0] (List.range' 1 ((((sa 2), .inl (d 1, 110, .inl TA)) :: ([(mla, .inr (3, [.int (yLm y), .ref ea, .int (Int32.ofNat (yks y).length)])), (ea, .inl (d 6, 10, .inr (.inr (.inr (.inr (fun j => das[j]?)))))), oH ma mfl mro mrp mca mwy mla mmi mtf mtk, ((ma 1), .inl (d 0, 6, .inl mHO)), ((ma 2), .inl (d 0, 6, .inl (yAT y))), ((ma 3), .inl (d 0, 6, .inl (yTO y))), ((ma 4), .inl (d 0, 6, .inl (yWE y))), ((ma 5), .inl (d 0, 6, .inl (yHE y))), ((ma 6), .inl (d 0, 6, .inl mRA))] ++ dsW das (yks y))).length)) rfl rfl (rg_map [(ra, .inr (11, [.ref (sa 2), .int rz, .int (yat y), .int (ytk y), .int (yfr y), .int (yva y), .ref (ma 0)]))] (((sa 2), .inl (d 1, 110, .inl TA)) :: ([(mla, .inr (3, [.int (yLm y), .ref ea, .int (Int32.ofNat (yks y).length)])), (ea, .inl (d 6, 10, .inr (.inr (.inr (.inr (fun j => das[j]?)))))), oH ma mfl mro mrp mca mwy mla mmi mtf mtk, ((ma 1), .inl (d 0, 6, .inl mHO)), ((ma 2), .inl (d 0, 6, .inl (yAT y))), ((ma 3), .inl (d 0, 6, .inl (yTO y))), ((ma 4), .inl (d 0, 6, .inl (yWE y))), ((ma 5), .inl (d 0, 6, .inl (yHE y))), ((ma 6), .inl (d 0, 6, .inl mRA))] ++ dsW das (yks y))) 1 rfl) (rg_nd _ _) (by intro i hi hj; exact rg_dis 1 _ i hi hj) ⟨by dsimp only; omega, by dsimp only; omega⟩ (fun r u H locs hp hw => ?_)
    subst r
    have hw : Wd D A s ((ra, .inr (11, [.ref (sa 2), .int rz, .int (yat y), .int (ytk y), .int (yfr y), .int (yva y), .ref (ma 0)])) :: (((sa 2), .inl (d 1, 110, .inl TA)) :: ([(mla, .inr (3, [.int (yLm y), .ref ea, .int (Int32.ofNat (yks y).length)])), (ea, .inl (d 6, 10, .inr (.inr (.inr (.inr (fun j => das[j]?)))))), oH ma mfl mro mrp mca mwy mla mmi mtf mtk, ((ma 1), .inl (d 0, 6, .inl mHO)), ((ma 2), .inl (d 0, 6, .inl (yAT y))), ((ma 3), .inl (d 0, 6, .inl (yTO y))), ((ma 4), .inl (d 0, 6, .inl (yWE y))), ((ma 5), .inl (d 0, 6, .inl (yHE y))), ((ma 6), .inl (d 0, 6, .inl mRA))] ++ dsW das (yks y)))) H locs := hw.perm List.perm_append_comm
    refine lv_ldc (v := (-1000000)) hx hb hown (hts _ q553) dX12_all_94 ?_
    refine lv_icmp_eq (tgt := 106) hx hb dX12_all_96 (by decide) (fun c96 => ?_) (fun c96 => ?_)
    · have hf := if_t hf c96
      refine lv_aload_n hx hb dX12_all_106 rfl (lv_at hl 0 rfl) ?_
      refine lv_aload_n hx hb dX12_all_107 rfl (lv_at hl 0 rfl) ?_
      refine va_get (ci := 11) (C := RX12) (T := TX12) (N := 7) hx hb hts in_X12 hown hK hw.1 0 rfl rfl 3 (by decide) (hts _ q521) (fun _ h9 => h9) rfl dX12_all_108 ?_
      obtain ⟨j, hj, hf⟩ := op_e hf
      have key : ∀ (ls : Array Slot), lv_has ls 2 [(0, .ref ra)] → W p l e { frames := 8, cells := 24, slots := 160, locals := 220 } s m args below meth c H locs cells slots (vx_MQ below (va_Qv (fun (_ : Unit) => False) (fun _ _ => True) A) (vx_X (fun _ : Unit => True) (fun E q u t => E = "DishLift$Fault" ∧ posW D ((fun q9 (_ : Unit) => [((sa 2), .inl (d 1, 110, .inl TA)), (q9, .inr (13, [.null, .null, .null, .null, .null, .int 0, .int er.1, .int er.2]))]) q u) A t) A) args s 24 160 A) (F0 m 119 ls [.int j, .ref ra]) := by
        intro ls hl
        refine lv_iconst (v := 1) hx hb dX12_all_119 (by decide) ?_
        obtain ⟨r3, hcr3, hf⟩ := op_e hf
        rcases r3 with q4 | e5
        · have hf := sm_e hf
          subst hf
          cases h2
        · have hf := sm_e hf
          subst hf
          have h2 := Sum.inr.inj (sm_e h2)
          subst h2
          refine x_TV (wr := (((sa 2), .inl (d 1, 110, .inl TA)) :: ([(mla, .inr (3, [.int (yLm y), .ref ea, .int (Int32.ofNat (yks y).length)])), (ea, .inl (d 6, 10, .inr (.inr (.inr (.inr (fun j => das[j]?)))))), oH ma mfl mro mrp mca mwy mla mmi mtf mtk, ((ma 1), .inl (d 0, 6, .inl mHO)), ((ma 2), .inl (d 0, 6, .inl (yAT y))), ((ma 3), .inl (d 0, 6, .inl (yTO y))), ((ma 4), .inl (d 0, 6, .inl (yWE y))), ((ma 5), .inl (d 0, 6, .inl (yHE y))), ((ma 6), .inl (d 0, 6, .inl mRA))] ++ dsW das (yks y)))) (rest := []) [.int j, .int 1] hX cx hw hl.1 (tX12_must l D d cs wi ln lf dk dn him ra sa ma rz (yat y) (ytk y) (yfr y) (yva y) j 1 e5 hcr3) (lw_V q563 q565 qs7 q104 q566) hd_X12_must ⟨(Nat.le_of_ble_eq_true rfl), (Nat.le_of_ble_eq_true rfl)⟩ (va_recv hK hw.1 (ci := 11) (q0 := 0) rfl rfl) rfl rfl (Nat.le_of_ble_eq_true rfl) dX12_all_120 [0] (List.range' 1 ((((sa 2), .inl (d 1, 110, .inl TA)) :: ([(mla, .inr (3, [.int (yLm y), .ref ea, .int (Int32.ofNat (yks y).length)])), (ea, .inl (d 6, 10, .inr (.inr (.inr (.inr (fun j => das[j]?)))))), oH ma mfl mro mrp mca mwy mla mmi mtf mtk, ((ma 1), .inl (d 0, 6, .inl mHO)), ((ma 2), .inl (d 0, 6, .inl (yAT y))), ((ma 3), .inl (d 0, 6, .inl (yTO y))), ((ma 4), .inl (d 0, 6, .inl (yWE y))), ((ma 5), .inl (d 0, 6, .inl (yHE y))), ((ma 6), .inl (d 0, 6, .inl mRA))] ++ dsW das (yks y))).length)) rfl rfl (rg_map [(ra, .inr (11, [.ref (sa 2), .int rz, .int (yat y), .int (ytk y), .int (yfr y), .int (yva y), .ref (ma 0)]))] (((sa 2), .inl (d 1, 110, .inl TA)) :: ([(mla, .inr (3, [.int (yLm y), .ref ea, .int (Int32.ofNat (yks y).length)])), (ea, .inl (d 6, 10, .inr (.inr (.inr (.inr (fun j => das[j]?)))))), oH ma mfl mro mrp mca mwy mla mmi mtf mtk, ((ma 1), .inl (d 0, 6, .inl mHO)), ((ma 2), .inl (d 0, 6, .inl (yAT y))), ((ma 3), .inl (d 0, 6, .inl (yTO y))), ((ma 4), .inl (d 0, 6, .inl (yWE y))), ((ma 5), .inl (d 0, 6, .inl (yHE y))), ((ma 6), .inl (d 0, 6, .inl mRA))] ++ dsW das (yks y))) 1 rfl) (rg_nd _ _) (by intro i hi hj; exact rg_dis 1 _ i hi hj) ⟨by dsimp only; omega, by dsimp only; omega⟩ (fun a8 ce u H locs hw g1 g2 g3 => ?_)
          have hw : Wd D A s ((((sa 2), .inl (d 1, 110, .inl TA)) :: ([(mla, .inr (3, [.int (yLm y), .ref ea, .int (Int32.ofNat (yks y).length)])), (ea, .inl (d 6, 10, .inr (.inr (.inr (.inr (fun j => das[j]?)))))), oH ma mfl mro mrp mca mwy mla mmi mtf mtk, ((ma 1), .inl (d 0, 6, .inl mHO)), ((ma 2), .inl (d 0, 6, .inl (yAT y))), ((ma 3), .inl (d 0, 6, .inl (yTO y))), ((ma 4), .inl (d 0, 6, .inl (yWE y))), ((ma 5), .inl (d 0, 6, .inl (yHE y))), ((ma 6), .inl (d 0, 6, .inl mRA))] ++ dsW das (yks y))) ++ [(a8, .inr (13, [.null, .null, .null, .null, .null, .int 0, .int e5.1, .int e5.2]))]) H locs := hw
          have hw := hw.perm (List.perm_append_comm.trans (List.Perm.swap _ _ _))
          exact x_out cx hET hw () g1 g2 g3 [0, 1] rfl rfl (by dsimp only; omega) (by dsimp only; omega)
      refine lv_if_ne (tgt := 118) hx hb dX12_all_111 (by decide) (fun c => ?_) (fun c => ?_)
      · have hj := if_f hj (fun h => c h)
        have hj := sm_e hj
        subst hj
        refine lv_iconst (v := 0) hx hb dX12_all_118 (by decide) ?_
        exact key ls hl
      · have hj := if_t hj c
        have hj := sm_e hj
        subst hj
        refine lv_iconst (v := 1) hx hb dX12_all_114 (by decide) ?_
        refine lv_goto (tgt := 119) hx hb dX12_all_115 (by decide) ?_
        exact key ls hl
    · have hf := if_f hf c96
      refine lv_aload_n hx hb dX12_all_99 rfl (lv_at hl 0 rfl) ?_
      obtain ⟨r3, hcr3, hf⟩ := op_e hf
      have hw : Wd D A s (([(ra, .inr (11, [.ref (sa 2), .int rz, .int (yat y), .int (ytk y), .int (yfr y), .int (yva y), .ref (ma 0)])), ((sa 2), .inl (d 1, 110, .inl TA))] ++ [(mla, .inr (3, [.int (yLm y), .ref ea, .int (Int32.ofNat (yks y).length)])), (ea, .inl (d 6, 10, .inr (.inr (.inr (.inr (fun j => das[j]?)))))), oH ma mfl mro mrp mca mwy mla mmi mtf mtk, ((ma 1), .inl (d 0, 6, .inl mHO)), ((ma 2), .inl (d 0, 6, .inl (yAT y))), ((ma 3), .inl (d 0, 6, .inl (yTO y))), ((ma 4), .inl (d 0, 6, .inl (yWE y))), ((ma 5), .inl (d 0, 6, .inl (yHE y))), ((ma 6), .inl (d 0, 6, .inl mRA))]) ++ dsW das (yks y)) H locs := hw
      have hw : Wd D A s (([(mla, .inr (3, [.int (yLm y), .ref ea, .int (Int32.ofNat (yks y).length)])), (ea, .inl (d 6, 10, .inr (.inr (.inr (.inr (fun j => das[j]?)))))), oH ma mfl mro mrp mca mwy mla mmi mtf mtk, ((ma 1), .inl (d 0, 6, .inl mHO)), ((ma 2), .inl (d 0, 6, .inl (yAT y))), ((ma 3), .inl (d 0, 6, .inl (yTO y))), ((ma 4), .inl (d 0, 6, .inl (yWE y))), ((ma 5), .inl (d 0, 6, .inl (yHE y))), ((ma 6), .inl (d 0, 6, .inl mRA))] ++ [(ra, .inr (11, [.ref (sa 2), .int rz, .int (yat y), .int (ytk y), .int (yfr y), .int (yva y), .ref (ma 0)])), ((sa 2), .inl (d 1, 110, .inl TA))]) ++ dsW das (yks y)) H locs := hw.perm ((List.perm_append_comm (l₁ := [(ra, .inr (11, [.ref (sa 2), .int rz, .int (yat y), .int (ytk y), .int (yfr y), .int (yva y), .ref (ma 0)])), ((sa 2), .inl (d 1, 110, .inl TA))]) (l₂ := [(mla, .inr (3, [.int (yLm y), .ref ea, .int (Int32.ofNat (yks y).length)])), (ea, .inl (d 6, 10, .inr (.inr (.inr (.inr (fun j => das[j]?)))))), oH ma mfl mro mrp mca mwy mla mmi mtf mtk, ((ma 1), .inl (d 0, 6, .inl mHO)), ((ma 2), .inl (d 0, 6, .inl (yAT y))), ((ma 3), .inl (d 0, 6, .inl (yTO y))), ((ma 4), .inl (d 0, 6, .inl (yWE y))), ((ma 5), .inl (d 0, 6, .inl (yHE y))), ((ma 6), .inl (d 0, 6, .inl mRA))])).append_right (dsW das (yks y)))
      rcases r3 with q4 | e5
      · refine x_VV (wr := dsW das (yks y)) (rest := []) [] hX cx hw hl.1 (mX12_dish_1 l D d cs wi ln lf dk dn him ma ra mla ea sa mfl mro mrp mca mwy mmi mtf mtk mHO (yAT y) (yTO y) (yWE y) (yHE y) mRA rz (yat y) (ytk y) (yfr y) (yva y) (yLm y) (Int32.ofNat (yks y).length) (fun j => das[j]?) TA hstr hemp q4 hcr3) (lw_V q658 q660 qs12 q104 q661) hd_X12_dish ⟨(Nat.le_of_ble_eq_true rfl), (Nat.le_of_ble_eq_true rfl)⟩ (va_recv hK hw.1 (ci := 11) (q0 := 9) rfl rfl) rfl rfl (Nat.le_of_ble_eq_true rfl) dX12_all_100 (List.range 11) (List.range' 11 (dsW das (yks y)).length) (by decide) rfl (rg_map ([(mla, .inr (3, [.int (yLm y), .ref ea, .int (Int32.ofNat (yks y).length)])), (ea, .inl (d 6, 10, .inr (.inr (.inr (.inr (fun j => das[j]?)))))), oH ma mfl mro mrp mca mwy mla mmi mtf mtk, ((ma 1), .inl (d 0, 6, .inl mHO)), ((ma 2), .inl (d 0, 6, .inl (yAT y))), ((ma 3), .inl (d 0, 6, .inl (yTO y))), ((ma 4), .inl (d 0, 6, .inl (yWE y))), ((ma 5), .inl (d 0, 6, .inl (yHE y))), ((ma 6), .inl (d 0, 6, .inl mRA))] ++ [(ra, .inr (11, [.ref (sa 2), .int rz, .int (yat y), .int (ytk y), .int (yfr y), .int (yva y), .ref (ma 0)])), ((sa 2), .inl (d 1, 110, .inl TA))]) (dsW das (yks y)) 11 rfl) (rg_nd _ _) (rg_dis 11 _) ⟨by dsimp only; omega, by dsimp only; omega⟩ (fun a8 H locs hp hw => ?_)
        obtain ⟨hN1, hk1⟩ := dish_1_of hcr3
        have hf := sm_e hf
        subst hf
        have hl0 : (yks (yn q4 (yks y))).length = (yks y).length + 1 := by show (yks y ++ [_]).length = _; simp
        have hl1 : (das ++ [a8]).length = (yks (yn q4 (yks y))).length := by rw [hl0, ← hlen]; simp
        have hk6 : ∀ k ∈ yks (yn q4 (yks y)), k.1 < 5 := fun k hk => (List.mem_append.mp hk).elim (hk5 k) (fun hk => by rw [List.mem_singleton.mp hk]; exact hk1)
        have en : (Int32.ofNat (yks y).length).toNatClampNeg = das.length := by rw [hlen]; exact toClamp (by omega)
        have eN : q4.2.1 = Int32.ofNat (yks (yn q4 (yks y))).length := by rw [hN1, hl0]; exact (Int32.ofNat_add _ _).symm
        refine W.eq (g2 := F0 m 103 ls []) rfl ?_
        refine lv_goto (tgt := 88) hx hb dX12_all_103 (by decide) ?_
        rw [en, va_up_get] at hw
        rw [eN] at hw
        refine ih (yn q4 (yks y)) ea (das ++ [a8]) H locs ls (cells + 2) (slots + 11) hl1 hk6 (by omega) (by omega) h2 ?_ hl
        have e9 : dsW (das ++ [a8]) (yks (yn q4 (yks y))) = dsW das (yks y) ++ [(a8, .inr (5 + q4.2.2.2.2.2.2.2.2.2.2.1, [.int q4.2.2.2.2.2.2.2.2.2.2.2]))] := dsW_snoc hlen _ _
        unfold wL
        rw [e9]
        refine hw.perm ?_
        exact perm_grow (dsW das (yks y)) [(ra, .inr (11, [.ref (sa 2), .int rz, .int (yat (yn q4 (yks y))), .int (ytk (yn q4 (yks y))), .int (yfr (yn q4 (yks y))), .int (yva (yn q4 (yks y))), .ref (ma 0)])), ((sa 2), .inl (d 1, 110, .inl TA))] [(mla, .inr (3, [.int (yLm (yn q4 (yks y))), .ref ea, .int (Int32.ofNat (yks (yn q4 (yks y))).length)])), (ea, .inl (d 6, 10, .inr (.inr (.inr (.inr (fun j => (das ++ [a8])[j]?)))))), oH ma mfl mro mrp mca mwy mla mmi mtf mtk, ((ma 1), .inl (d 0, 6, .inl mHO)), ((ma 2), .inl (d 0, 6, .inl (yAT (yn q4 (yks y))))), ((ma 3), .inl (d 0, 6, .inl (yTO (yn q4 (yks y))))), ((ma 4), .inl (d 0, 6, .inl (yWE (yn q4 (yks y))))), ((ma 5), .inl (d 0, 6, .inl (yHE (yn q4 (yks y))))), ((ma 6), .inl (d 0, 6, .inl mRA))] (a8, .inr (5 + q4.2.2.2.2.2.2.2.2.2.2.1, [.int q4.2.2.2.2.2.2.2.2.2.2.2]))
      · have hf := sm_e hf
        subst hf
        have h2 := Sum.inr.inj (sm_e h2)
        subst h2
        refine x_TV (wr := dsW das (yks y)) (rest := []) [] hX cx hw hl.1 (tX12_dish_1 l D d cs wi ln lf dk dn him ma ra mla ea sa mfl mro mrp mca mwy mmi mtf mtk mHO (yAT y) (yTO y) (yWE y) (yHE y) mRA rz (yat y) (ytk y) (yfr y) (yva y) (yLm y) (Int32.ofNat (yks y).length) (fun j => das[j]?) TA hstr hemp e5 hcr3) (lw_V q658 q660 qs12 q104 q661) hd_X12_dish ⟨(Nat.le_of_ble_eq_true rfl), (Nat.le_of_ble_eq_true rfl)⟩ (va_recv hK hw.1 (ci := 11) (q0 := 9) rfl rfl) rfl rfl (Nat.le_of_ble_eq_true rfl) dX12_all_100 (List.range 11) (List.range' 11 (dsW das (yks y)).length) (by decide) rfl (rg_map ([(mla, .inr (3, [.int (yLm y), .ref ea, .int (Int32.ofNat (yks y).length)])), (ea, .inl (d 6, 10, .inr (.inr (.inr (.inr (fun j => das[j]?)))))), oH ma mfl mro mrp mca mwy mla mmi mtf mtk, ((ma 1), .inl (d 0, 6, .inl mHO)), ((ma 2), .inl (d 0, 6, .inl (yAT y))), ((ma 3), .inl (d 0, 6, .inl (yTO y))), ((ma 4), .inl (d 0, 6, .inl (yWE y))), ((ma 5), .inl (d 0, 6, .inl (yHE y))), ((ma 6), .inl (d 0, 6, .inl mRA))] ++ [(ra, .inr (11, [.ref (sa 2), .int rz, .int (yat y), .int (ytk y), .int (yfr y), .int (yva y), .ref (ma 0)])), ((sa 2), .inl (d 1, 110, .inl TA))]) (dsW das (yks y)) 11 rfl) (rg_nd _ _) (rg_dis 11 _) ⟨by dsimp only; omega, by dsimp only; omega⟩ (fun a8 ce u H locs hw g1 g2 g3 => ?_)
        have hw : Wd D A s (dsW das (yks y) ++ [((sa 2), .inl (d 1, 110, .inl TA)), (a8, .inr (13, [.null, .null, .null, .null, .null, .int 0, .int e5.1, .int e5.2]))]) H locs := hw
        have hw := hw.perm List.perm_append_comm
        exact x_out cx hET hw () g1 g2 g3 [0, 1] rfl rfl (by dsimp only; omega) (by dsimp only; omega)
