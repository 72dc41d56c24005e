set_option maxRecDepth 100000
/-! BASE 5: the string constant -/
def strB : Nat → Int32 := fun k => if k = 0 then 104 else if k = 1 then 115 else if k = 2 then 114 else if k = 3 then 99 else if k = 4 then 105 else 0
/-- the constant's cells stand among the immutable ones -/
theorem strB_at (j : Nat) : ([104, 115, 114, 99, 105] : List Int32).getD j 0 = strB j := by
  match j with
  | 0 => rfl
  | 1 => rfl
  | 2 => rfl
  | 3 => rfl
  | 4 => rfl
  | n + 5 =>
    unfold strB
    rw [if_neg (by omega), if_neg (by omega), if_neg (by omega), if_neg (by omega), if_neg (by omega)]
    rfl
def StrF (_d : Nat → ClassId) (_cs : Nat → Nat) (_wi : va_W) : Prop := True
def gc (v : Int32) : Option Unit := if (v.toUInt32 % 65536).toInt32 = v then some () else none
theorem gc_spec {v : Int32} {u : Unit} (h : gc v = some u) : narrow .char (.int v) = .int v := by
  unfold gc at h
  split at h
  · next h1 => exact congrArg Value.int h1
  · cases h
section XT5
variable {p : Program} {l : Launch} {e : Env} {R : Room} {s : State} {m : MethodId} {args : Array Value} {below : List Frame} {meth : Method} {c : Code} {H : Heap} {locs : List Loc} {cells slots : Nat} {Q : State → Prop}
variable {cc : ByteArray} {pc : Nat} {ls : Array Slot} {rest : List Value} {X : XT} {D : va_G} {d : Nat → ClassId} {A : Nat → Prop} {a : Nat} {wi : va_W} {own nm : String} {nL : Nat} {ret : Option FieldType}
theorem x_baldI {q0 : Nat} {n : Nat} {f : Nat → Int32} {i v : Int32} (cx : Cx p s m args meth c X D d A own cc nL ret nm) (hP : va_P D vwCl wi H) (ha : wi[q0]? = some (a, .inl (d 1, n, .inl f))) (hv : rd f n i = some v) (hdg : decode cc pc = .ok (.baload, 1))
    (kk : W p l e R s m args below meth c H locs cells slots Q (F0 m (pc + 1) ls (.int v :: rest))) : W p l e R s m args below meth c H locs cells slots Q (F0 m pc ls (.int i :: .ref a :: rest)) := by
  obtain ⟨hin, rfl⟩ := rd_spec hv
  exact va_bald cx.1 cx.2.1 cx.2.2.2.2.2.2.2.1 hP q0 1 ha rfl hin hdg kk
end XT5

def fJ8_checkIndex (p0 : Int32) (p1 : Int32) : Option (Unit) :=
  (fJ10_checkIndex p0 p1).bind fun q2 =>
  some ()
def fJ9_charAt (p1 : Int32) : Option (Int32) :=
  (fJ8_checkIndex p1 5).bind fun q1 =>
  (rd strB 5 p1).bind fun v2 =>
  (gc (((v2 &&& 255).toUInt32 % 65536).toInt32)).bind fun g3 =>
  some (((v2 &&& 255).toUInt32 % 65536).toInt32)
def fJ8_isLatin1  : Option (Int32) :=
  some 1
def fJ8_coder  : Option (Int32) :=
  some 0
def fJ8_length  : Option (Int32) :=
  (fJ8_coder).bind fun q1 =>
  some ((5 : Int32) >>> (q1 &&& 31))
def fJ8_charAt (p1 : Int32) : Option (Int32) :=
  (fJ8_isLatin1).bind fun q1 =>
  if q1 = 0 then
    none
  else
    (fJ9_charAt p1).bind fun q2 =>
    (gc q2).bind fun g3 =>
    some q2
def fX12_sortIn_b2 (p1 : Int32) (p2 : Int32) (x2 : Int32) : Option ((Int32) ⊕ (Int32)) :=
  (fJ8_length).bind fun q3 =>
  if q3 ≤ x2 then
    some (.inr x2)
  else
    if p1 = 1 then
      (fJ8_charAt x2).bind fun q4 =>
      if q4 = p2 then
        some (.inr x2)
      else
        some (.inl (x2 + 1))
    else
      some (.inl (x2 + 1))
def fX12_sortIn (p1 : Int32) (p2 : Int32) : Option (Int32) :=
  (lp (fX12_sortIn_b2 p1 p2) FU 0).bind fun r1 =>
  (fJ8_length).bind fun q2 =>
  if q2 ≤ r1 then
    some (-1000000)
  else
    some r1
def fX12_sortOf (rtk : Int32) (rva : Int32) : Option (Int32) :=
  (fX12_sortIn rtk rva).bind fun q1 =>
  some q1
set_option maxHeartbeats 4000000 in
theorem mJ10_checkIndex_r (l : Launch) (D : va_G) (d : Nat → ClassId) (cs : Nat → Nat) (wi : va_W) (ln : Nat → Option Int32) (lf : Nat → Nat → Option Nat) (dk : Nat → Option Nat) (dn : Nat → Int32) (him : ImF d wi ln lf dk dn) (p0 : Int32) (p1 : Int32) (p2 : Nat)  (res : Int32) (hf : fJ10_checkIndex p0 p1 = some res) : MetI l yJ10_checkIndex (ws_ yJ10_checkIndex cJ10_checkIndex 3 (some .int)) { frames := 0, cells := 0, slots := 0, locals := 0 } [.int p0, .int p1, .ref p2] (XI D cs wi) D d [] (fun r (_ : Unit) => r = res) (fun _ => []) := by
  have hX := XI.ok (D := D) (cs := cs) (wi := wi)
  refine MetI.of (by decide +kernel) (Nat.le_of_ble_eq_true rfl) ?_
  intro p e s m below meth c A cx hw ls hl
  have cx : Cx p s m _ meth c (XI D cs wi) D d A "jdk/internal/util/Preconditions" cJ10_checkIndex 3 (some .int) "checkIndex" := cx
  have cx' := cx
  obtain ⟨hx, hb, hr, hlk, hml, hown, hts, hK, hA, hXs, hnm⟩ := cx'
  have hl : lv_has ls 3 [(0, .int p0), (1, .int p1), (2, .ref p2)] := hl
  generalize hlo : ([] : List Loc) = locs at hw ⊢
  unfold fJ10_checkIndex at hf
  refine lv_iload_n hx hb dJ10_checkIndex_0 rfl (lv_at hl 0 rfl) ?_
  refine lv_if_lt (tgt := 9) hx hb dJ10_checkIndex_1 (by decide) (fun c1 => ?_) (fun c1 => ?_)
  · have hf := if_t hf c1
    refine lv_aload_n hx hb dJ10_checkIndex_9 rfl (lv_at hl 2 rfl) ?_
    refine lv_iload_n hx hb dJ10_checkIndex_10 rfl (lv_at hl 0 rfl) ?_
    refine lv_iload_n hx hb dJ10_checkIndex_11 rfl (lv_at hl 1 rfl) ?_
    cases hf
  · have hf := if_f hf c1
    refine lv_iload_n hx hb dJ10_checkIndex_4 rfl (lv_at hl 0 rfl) ?_
    refine lv_iload_n hx hb dJ10_checkIndex_5 rfl (lv_at hl 1 rfl) ?_
    refine lv_icmp_lt (tgt := 16) hx hb dJ10_checkIndex_6 (by decide) (fun c6 => ?_) (fun c6 => ?_)
    · have hf := if_t hf c6
      refine lv_iload_n hx hb dJ10_checkIndex_16 rfl (lv_at hl 0 rfl) ?_
      have hf := sm_e hf
      subst hf
      exact x_retI cx hw rfl () rfl [] rfl rfl (Nat.le_of_ble_eq_true rfl) (Nat.le_of_ble_eq_true rfl) dJ10_checkIndex_17
    · have hf := if_f hf c6
      refine lv_aload_n hx hb dJ10_checkIndex_9 rfl (lv_at hl 2 rfl) ?_
      refine lv_iload_n hx hb dJ10_checkIndex_10 rfl (lv_at hl 0 rfl) ?_
      refine lv_iload_n hx hb dJ10_checkIndex_11 rfl (lv_at hl 1 rfl) ?_
      cases hf
theorem hd_J8_checkIndex : yJ8_checkIndex.cls ≠ "java/lang/invoke/MethodHandle" ∧ yJ8_checkIndex.cls ≠ "java/lang/invoke/VarHandle" ∧ (parseMethodDescriptor yJ8_checkIndex.desc).map (fun d => d.parameters.length) = some 2 := by decide +kernel
set_option maxHeartbeats 4000000 in
theorem mJ8_checkIndex (l : Launch) (D : va_G) (d : Nat → ClassId) (cs : Nat → Nat) (wi : va_W) (ln : Nat → Option Int32) (lf : Nat → Nat → Option Nat) (dk : Nat → Option Nat) (dn : Nat → Int32) (him : ImF d wi ln lf dk dn) (p0 : Int32) (p1 : Int32)  (res : Unit) (hf : fJ8_checkIndex p0 p1 = some res) : MetV l yJ8_checkIndex (ws_ yJ8_checkIndex cJ8_checkIndex 2 none) { frames := 1, cells := 0, slots := 0, locals := 22 } [.int p0, .int p1] (XI D cs wi) D d [] (fun (_ : Unit) => True) (fun _ => []) := by
  have hX := XI.ok (D := D) (cs := cs) (wi := wi)
  refine MetV.of (by decide +kernel) (Nat.le_of_ble_eq_true rfl) ?_
  intro p e s m below meth c A cx hw ls hl
  have cx : Cx p s m _ meth c (XI D cs wi) D d A "java/lang/String" cJ8_checkIndex 2 none "checkIndex" := cx
  have cx' := cx
  obtain ⟨hx, hb, hr, hlk, hml, hown, hts, hK, hA, hXs, hnm⟩ := cx'
  have hl : lv_has ls 2 [(0, .int p0), (1, .int p1)] := hl
  generalize hlo : ([] : List Loc) = locs at hw ⊢
  unfold fJ8_checkIndex at hf
  refine lv_iload_n hx hb dJ8_checkIndex_0 rfl (lv_at hl 0 rfl) ?_
  refine lv_iload_n hx hb dJ8_checkIndex_1 rfl (lv_at hl 1 rfl) ?_
  obtain ⟨o1, hzq⟩ := zq_val hXs.2.1.2.2.2.2.1
  refine va_gets hx hb hzq hw.2.2 hown (hts _ q634) (fun _ h9 => h9) dJ8_checkIndex_2 ?_
  rcases o1 with _ | eo1o
  · refine W.eq (g2 := F0 m 5 ls [.null, .int p1, .int p0]) rfl ?_
    obtain ⟨q2, hcq2, hf⟩ := op_e hf
    refine x_SI (wr := []) (rest := []) [.int p0, .int p1, .null] hX cx hw hl.1 (mJ10_checkIndex l (XI D cs wi) hX D d  p0 p1  q2 hcq2) (lw_S q636 q637 q107 q638) hd_J10_checkIndex ⟨(Nat.le_of_ble_eq_true rfl), (Nat.le_of_ble_eq_true rfl)⟩ rfl rfl (Nat.le_of_ble_eq_true rfl) dJ8_checkIndex_5 [] [] rfl rfl rfl rfl (by decide) ⟨(Nat.le_of_ble_eq_true rfl), (Nat.le_of_ble_eq_true rfl)⟩ (fun r u H locs hp hw => ?_)
    have hw : Wd D A s [] H locs := hw
    subst r
    refine lv_pop hx hb dJ8_checkIndex_8 rfl ?_
    have hf := sm_e hf
    subst hf
    exact x_retV cx hw () trivial [] rfl rfl (Nat.le_of_ble_eq_true rfl) (Nat.le_of_ble_eq_true rfl) dJ8_checkIndex_9
  · refine W.eq (g2 := F0 m 5 ls [.ref eo1o, .int p1, .int p0]) rfl ?_
    obtain ⟨q2, hcq2, hf⟩ := op_e hf
    refine x_SI (wr := []) (rest := []) [.int p0, .int p1, .ref eo1o] hX cx hw hl.1 (mJ10_checkIndex_r l  D d cs wi ln lf dk dn him p0 p1 eo1o  q2 hcq2) (lw_S q636 q637 q107 q638) hd_J10_checkIndex ⟨(Nat.le_of_ble_eq_true rfl), (Nat.le_of_ble_eq_true rfl)⟩ rfl rfl (Nat.le_of_ble_eq_true rfl) dJ8_checkIndex_5 [] [] rfl rfl rfl rfl (by decide) ⟨(Nat.le_of_ble_eq_true rfl), (Nat.le_of_ble_eq_true rfl)⟩ (fun r u H locs hp hw => ?_)
    have hw : Wd D A s [] H locs := hw
    subst r
    refine lv_pop hx hb dJ8_checkIndex_8 rfl ?_
    have hf := sm_e hf
    subst hf
    exact x_retV cx hw () trivial [] rfl rfl (Nat.le_of_ble_eq_true rfl) (Nat.le_of_ble_eq_true rfl) dJ8_checkIndex_9
theorem hd_J9_charAt : yJ9_charAt.cls ≠ "java/lang/invoke/MethodHandle" ∧ yJ9_charAt.cls ≠ "java/lang/invoke/VarHandle" ∧ (parseMethodDescriptor yJ9_charAt.desc).map (fun d => d.parameters.length) = some 2 := by decide +kernel
set_option maxHeartbeats 4000000 in
theorem mJ9_charAt (l : Launch) (D : va_G) (d : Nat → ClassId) (cs : Nat → Nat) (wi : va_W) (ln : Nat → Option Int32) (lf : Nat → Nat → Option Nat) (dk : Nat → Option Nat) (dn : Nat → Int32) (him : ImF d wi ln lf dk dn) (p1 : Int32) (hstr : StrF d cs wi) (res : Int32) (hf : fJ9_charAt p1 = some res) : MetI l yJ9_charAt (ws_ yJ9_charAt cJ9_charAt 2 (some .char)) { frames := 2, cells := 0, slots := 0, locals := 43 } [.ref (cs 2), .int p1] (XI D cs wi) D d [] (fun r (_ : Unit) => r = res) (fun _ => []) := by
  have hX := XI.ok (D := D) (cs := cs) (wi := wi)
  refine MetI.of (by decide +kernel) (Nat.le_of_ble_eq_true rfl) ?_
  intro p e s m below meth c A cx hw ls hl
  have cx : Cx p s m _ meth c (XI D cs wi) D d A "java/lang/StringLatin1" cJ9_charAt 2 (some .char) "charAt" := cx
  have cx' := cx
  obtain ⟨hx, hb, hr, hlk, hml, hown, hts, hK, hA, hXs, hnm⟩ := cx'
  have hl : lv_has ls 2 [(0, .ref (cs 2)), (1, .int p1)] := hl
  generalize hlo : ([] : List Loc) = locs at hw ⊢
  unfold fJ9_charAt at hf
  refine lv_iload_n hx hb dJ9_charAt_0 rfl (lv_at hl 1 rfl) ?_
  refine lv_aload_n hx hb dJ9_charAt_1 rfl (lv_at hl 0 rfl) ?_
  have hPi := XI.at hXs hw
  refine va_tlen (v := 5) hx hb (XI.sT hXs) hw.2.2 rfl dJ9_charAt_2 ?_
  obtain ⟨q1, hcq1, hf⟩ := op_e hf
  refine x_SV (wr := []) (rest := []) [.int p1, .int 5] hX cx hw hl.1 (mJ8_checkIndex l  D d cs wi ln lf dk dn him p1 5  q1 hcq1) (lw_S q631 q632 q102 q633) hd_J8_checkIndex ⟨(Nat.le_of_ble_eq_true rfl), (Nat.le_of_ble_eq_true rfl)⟩ rfl rfl (Nat.le_of_ble_eq_true rfl) dJ9_charAt_3 [] [] rfl rfl rfl rfl (by decide) ⟨(Nat.le_of_ble_eq_true rfl), (Nat.le_of_ble_eq_true rfl)⟩ (fun u H locs hp hw => ?_)
  have hw : Wd D A s [] H locs := hw
  refine lv_aload_n hx hb dJ9_charAt_6 rfl (lv_at hl 0 rfl) ?_
  refine lv_iload_n hx hb dJ9_charAt_7 rfl (lv_at hl 1 rfl) ?_
  have hPi := XI.at hXs hw
  obtain ⟨v2, hrd, hf⟩ := op_e hf
  obtain ⟨hin9, e9⟩ := rd_spec hrd
  refine va_tb hx hb (XI.sT hXs) hw.2.2 hin9 (v := .int v2) ((congrArg Value.int (strB_at _)).trans (by rw [e9])) dJ9_charAt_8 ?_
  refine lv_sipush (v := 255) hx hb dJ9_charAt_9 (by decide) ?_
  refine lv_iand hx hb dJ9_charAt_12 ?_
  refine lv_i2c (v := ((v2 &&& 255).toUInt32 % 65536).toInt32) hx hb dJ9_charAt_13 rfl ?_
  obtain ⟨g3, hgb, hf⟩ := op_e hf
  have hf := sm_e hf
  subst hf
  exact x_retI cx hw (gc_spec hgb) () rfl [] rfl rfl (Nat.le_of_ble_eq_true rfl) (Nat.le_of_ble_eq_true rfl) dJ9_charAt_14
theorem hd_J8_isLatin1 : yJ8_isLatin1.cls = "java/lang/String" ∧ yJ8_isLatin1.cls ≠ "java/lang/invoke/MethodHandle" ∧ yJ8_isLatin1.cls ≠ "java/lang/invoke/VarHandle" ∧ (parseMethodDescriptor yJ8_isLatin1.desc).map (fun d => d.parameters.length) = some 0 := by decide +kernel
set_option maxHeartbeats 4000000 in
theorem mJ8_isLatin1 (l : Launch) (D : va_G) (d : Nat → ClassId) (cs : Nat → Nat) (wi : va_W) (ln : Nat → Option Int32) (lf : Nat → Nat → Option Nat) (dk : Nat → Option Nat) (dn : Nat → Int32) (him : ImF d wi ln lf dk dn)  (hstr : StrF d cs wi) (res : Int32) (hf : fJ8_isLatin1  = some res) : MetI l yJ8_isLatin1 (ws_ yJ8_isLatin1 cJ8_isLatin1 1 (some .boolean)) { frames := 0, cells := 0, slots := 0, locals := 0 } [.ref (cs 1)] (XI D cs wi) D d [] (fun r (_ : Unit) => r = res) (fun _ => []) := by
  have hX := XI.ok (D := D) (cs := cs) (wi := wi)
  refine MetI.of (by decide +kernel) (Nat.le_of_ble_eq_true rfl) ?_
  intro p e s m below meth c A cx hw ls hl
  have cx : Cx p s m _ meth c (XI D cs wi) D d A "java/lang/String" cJ8_isLatin1 1 (some .boolean) "isLatin1" := cx
  have cx' := cx
  obtain ⟨hx, hb, hr, hlk, hml, hown, hts, hK, hA, hXs, hnm⟩ := cx'
  have hl : lv_has ls 1 [(0, .ref (cs 1))] := hl
  generalize hlo : ([] : List Loc) = locs at hw ⊢
  unfold fJ8_isLatin1 at hf
  refine va_gets hx hb hXs.2.1.2.2.2.1 hw.2.2 hown (hts _ q618) (fun _ h9 => h9) dJ8_isLatin1_0 ?_
  refine lv_if_eq (tgt := 17) hx hb dJ8_isLatin1_3 (by decide) (fun c3 => ?_) (fun c3 => ?_)
  · first | exact absurd c3 (by decide) | exact absurd (by decide) c3
  · refine lv_aload_n hx hb dJ8_isLatin1_6 rfl (lv_at hl 0 rfl) ?_
    have hPi := XI.at hXs hw
    refine vk_getf hx hb (XI.sC hXs) hw.2.2 hown (hts _ q1730) (fun _ h9 => h9) dJ8_isLatin1_7 ?_
    refine lv_if_ne (tgt := 17) hx hb dJ8_isLatin1_10 (by decide) (fun c10 => ?_) (fun c10 => ?_)
    · first | exact absurd c10 (by decide) | exact absurd (by decide) c10
    · refine lv_iconst (v := 1) hx hb dJ8_isLatin1_13 (by decide) ?_
      refine lv_goto (tgt := 18) hx hb dJ8_isLatin1_14 (by decide) ?_
      have hf := sm_e hf
      subst hf
      exact x_retI cx hw rfl () rfl [] rfl rfl (Nat.le_of_ble_eq_true rfl) (Nat.le_of_ble_eq_true rfl) dJ8_isLatin1_18
theorem hd_J8_coder : yJ8_coder.cls = "java/lang/String" ∧ yJ8_coder.cls ≠ "java/lang/invoke/MethodHandle" ∧ yJ8_coder.cls ≠ "java/lang/invoke/VarHandle" ∧ (parseMethodDescriptor yJ8_coder.desc).map (fun d => d.parameters.length) = some 0 := by decide +kernel
set_option maxHeartbeats 4000000 in
theorem mJ8_coder (l : Launch) (D : va_G) (d : Nat → ClassId) (cs : Nat → Nat) (wi : va_W) (ln : Nat → Option Int32) (lf : Nat → Nat → Option Nat) (dk : Nat → Option Nat) (dn : Nat → Int32) (him : ImF d wi ln lf dk dn)  (hstr : StrF d cs wi) (res : Int32) (hf : fJ8_coder  = some res) : MetI l yJ8_coder (ws_ yJ8_coder cJ8_coder 1 (some .byte)) { frames := 0, cells := 0, slots := 0, locals := 0 } [.ref (cs 1)] (XI D cs wi) D d [] (fun r (_ : Unit) => r = res) (fun _ => []) := by
  have hX := XI.ok (D := D) (cs := cs) (wi := wi)
  refine MetI.of (by decide +kernel) (Nat.le_of_ble_eq_true rfl) ?_
  intro p e s m below meth c A cx hw ls hl
  have cx : Cx p s m _ meth c (XI D cs wi) D d A "java/lang/String" cJ8_coder 1 (some .byte) "coder" := cx
  have cx' := cx
  obtain ⟨hx, hb, hr, hlk, hml, hown, hts, hK, hA, hXs, hnm⟩ := cx'
  have hl : lv_has ls 1 [(0, .ref (cs 1))] := hl
  generalize hlo : ([] : List Loc) = locs at hw ⊢
  unfold fJ8_coder at hf
  refine va_gets hx hb hXs.2.1.2.2.2.1 hw.2.2 hown (hts _ q618) (fun _ h9 => h9) dJ8_coder_0 ?_
  refine lv_if_eq (tgt := 13) hx hb dJ8_coder_3 (by decide) (fun c3 => ?_) (fun c3 => ?_)
  · first | exact absurd c3 (by decide) | exact absurd (by decide) c3
  · refine lv_aload_n hx hb dJ8_coder_6 rfl (lv_at hl 0 rfl) ?_
    have hPi := XI.at hXs hw
    refine vk_getf hx hb (XI.sC hXs) hw.2.2 hown (hts _ q1730) (fun _ h9 => h9) dJ8_coder_7 ?_
    refine lv_goto (tgt := 14) hx hb dJ8_coder_10 (by decide) ?_
    have hf := sm_e hf
    subst hf
    exact x_retI cx hw rfl () rfl [] rfl rfl (Nat.le_of_ble_eq_true rfl) (Nat.le_of_ble_eq_true rfl) dJ8_coder_14
theorem hd_J8_length : yJ8_length.cls = "java/lang/String" ∧ yJ8_length.cls ≠ "java/lang/invoke/MethodHandle" ∧ yJ8_length.cls ≠ "java/lang/invoke/VarHandle" ∧ (parseMethodDescriptor yJ8_length.desc).map (fun d => d.parameters.length) = some 0 := by decide +kernel
set_option maxHeartbeats 4000000 in
theorem mJ8_length (l : Launch) (D : va_G) (d : Nat → ClassId) (cs : Nat → Nat) (wi : va_W) (ln : Nat → Option Int32) (lf : Nat → Nat → Option Nat) (dk : Nat → Option Nat) (dn : Nat → Int32) (him : ImF d wi ln lf dk dn)  (hstr : StrF d cs wi) (res : Int32) (hf : fJ8_length  = some res) : MetI l yJ8_length (ws_ yJ8_length cJ8_length 1 (some .int)) { frames := 1, cells := 0, slots := 0, locals := 20 } [.ref (cs 1)] (XI D cs wi) D d [] (fun r (_ : Unit) => r = res) (fun _ => []) := by
  have hX := XI.ok (D := D) (cs := cs) (wi := wi)
  refine MetI.of (by decide +kernel) (Nat.le_of_ble_eq_true rfl) ?_
  intro p e s m below meth c A cx hw ls hl
  have cx : Cx p s m _ meth c (XI D cs wi) D d A "java/lang/String" cJ8_length 1 (some .int) "length" := cx
  have cx' := cx
  obtain ⟨hx, hb, hr, hlk, hml, hown, hts, hK, hA, hXs, hnm⟩ := cx'
  have hl : lv_has ls 1 [(0, .ref (cs 1))] := hl
  generalize hlo : ([] : List Loc) = locs at hw ⊢
  unfold fJ8_length at hf
  refine lv_aload_n hx hb dJ8_length_0 rfl (lv_at hl 0 rfl) ?_
  have hPi := XI.at hXs hw
  refine vk_getf hx hb (XI.sV hXs) hw.2.2 hown (hts _ q1729) (fun _ h9 => h9) dJ8_length_1 ?_
  have hPi := XI.at hXs hw
  refine va_tlen (v := 5) hx hb (XI.sT hXs) hw.2.2 rfl dJ8_length_4 ?_
  refine lv_aload_n hx hb dJ8_length_5 rfl (lv_at hl 0 rfl) ?_
  obtain ⟨q1, hcq1, hf⟩ := op_e hf
  refine x_VI (wr := []) (rest := [.int 5]) [] hX cx hw hl.1 (mJ8_coder l  D d cs wi ln lf dk dn him hstr q1 hcq1) (lw_V q614 q615 q616 q102 q617) hd_J8_coder ⟨(Nat.le_of_ble_eq_true rfl), (Nat.le_of_ble_eq_true rfl)⟩ (XI.sR hXs hw.2.2) rfl rfl (Nat.le_of_ble_eq_true rfl) dJ8_length_6 [] [] rfl rfl rfl rfl (by decide) ⟨(Nat.le_of_ble_eq_true rfl), (Nat.le_of_ble_eq_true rfl)⟩ (fun r u H locs hp hw => ?_)
  have hw : Wd D A s [] H locs := hw
  subst r
  refine lv_ishr hx hb dJ8_length_9 ?_
  have hf := sm_e hf
  subst hf
  exact x_retI cx hw rfl () rfl [] rfl rfl (Nat.le_of_ble_eq_true rfl) (Nat.le_of_ble_eq_true rfl) dJ8_length_10
theorem hd_J8_charAt : yJ8_charAt.cls = "java/lang/String" ∧ yJ8_charAt.cls ≠ "java/lang/invoke/MethodHandle" ∧ yJ8_charAt.cls ≠ "java/lang/invoke/VarHandle" ∧ (parseMethodDescriptor yJ8_charAt.desc).map (fun d => d.parameters.length) = some 1 := by decide +kernel
set_option maxHeartbeats 4000000 in
theorem mJ8_charAt (l : Launch) (D : va_G) (d : Nat → ClassId) (cs : Nat → Nat) (wi : va_W) (ln : Nat → Option Int32) (lf : Nat → Nat → Option Nat) (dk : Nat → Option Nat) (dn : Nat → Int32) (him : ImF d wi ln lf dk dn) (p1 : Int32) (hstr : StrF d cs wi) (res : Int32) (hf : fJ8_charAt p1 = some res) : MetI l yJ8_charAt (ws_ yJ8_charAt cJ8_charAt 2 (some .char)) { frames := 3, cells := 0, slots := 0, locals := 64 } [.ref (cs 1), .int p1] (XI D cs wi) D d [] (fun r (_ : Unit) => r = res) (fun _ => []) := by
  have hX := XI.ok (D := D) (cs := cs) (wi := wi)
  refine MetI.of (by decide +kernel) (Nat.le_of_ble_eq_true rfl) ?_
  intro p e s m below meth c A cx hw ls hl
  have cx : Cx p s m _ meth c (XI D cs wi) D d A "java/lang/String" cJ8_charAt 2 (some .char) "charAt" := cx
  have cx' := cx
  obtain ⟨hx, hb, hr, hlk, hml, hown, hts, hK, hA, hXs, hnm⟩ := cx'
  have hl : lv_has ls 2 [(0, .ref (cs 1)), (1, .int p1)] := hl
  generalize hlo : ([] : List Loc) = locs at hw ⊢
  unfold fJ8_charAt at hf
  refine lv_aload_n hx hb dJ8_charAt_0 rfl (lv_at hl 0 rfl) ?_
  obtain ⟨q1, hcq1, hf⟩ := op_e hf
  refine x_VI (wr := []) (rest := []) [] hX cx hw hl.1 (mJ8_isLatin1 l  D d cs wi ln lf dk dn him hstr q1 hcq1) (lw_V q624 q625 q626 q102 q627) hd_J8_isLatin1 ⟨(Nat.le_of_ble_eq_true rfl), (Nat.le_of_ble_eq_true rfl)⟩ (XI.sR hXs hw.2.2) rfl rfl (Nat.le_of_ble_eq_true rfl) dJ8_charAt_1 [] [] rfl rfl rfl rfl (by decide) ⟨(Nat.le_of_ble_eq_true rfl), (Nat.le_of_ble_eq_true rfl)⟩ (fun r u H locs hp hw => ?_)
  have hw : Wd D A s [] H locs := hw
  subst r
  refine lv_if_eq (tgt := 16) hx hb dJ8_charAt_4 (by decide) (fun c4 => ?_) (fun c4 => ?_)
  · have hf := if_t hf c4
    refine lv_aload_n hx hb dJ8_charAt_16 rfl (lv_at hl 0 rfl) ?_
    have hPi := XI.at hXs hw
    refine vk_getf hx hb (XI.sV hXs) hw.2.2 hown (hts _ q1729) (fun _ h9 => h9) dJ8_charAt_17 ?_
    refine lv_iload_n hx hb dJ8_charAt_20 rfl (lv_at hl 1 rfl) ?_
    cases hf
  · have hf := if_f hf c4
    refine lv_aload_n hx hb dJ8_charAt_7 rfl (lv_at hl 0 rfl) ?_
    have hPi := XI.at hXs hw
    refine vk_getf hx hb (XI.sV hXs) hw.2.2 hown (hts _ q1729) (fun _ h9 => h9) dJ8_charAt_8 ?_
    refine lv_iload_n hx hb dJ8_charAt_11 rfl (lv_at hl 1 rfl) ?_
    obtain ⟨q2, hcq2, hf⟩ := op_e hf
    refine x_SI (wr := []) (rest := []) [.ref (cs 2), .int p1] hX cx hw hl.1 (mJ9_charAt l  D d cs wi ln lf dk dn him p1 hstr q2 hcq2) (lw_S q628 q629 q106 q630) hd_J9_charAt ⟨(Nat.le_of_ble_eq_true rfl), (Nat.le_of_ble_eq_true rfl)⟩ rfl rfl (Nat.le_of_ble_eq_true rfl) dJ8_charAt_12 [] [] rfl rfl rfl rfl (by decide) ⟨(Nat.le_of_ble_eq_true rfl), (Nat.le_of_ble_eq_true rfl)⟩ (fun r u H locs hp hw => ?_)
    have hw : Wd D A s [] H locs := hw
    subst r
    obtain ⟨g3, hgb, hf⟩ := op_e hf
    have hf := sm_e hf
    subst hf
    exact x_retI cx hw (gc_spec hgb) () rfl [] rfl rfl (Nat.le_of_ble_eq_true rfl) (Nat.le_of_ble_eq_true rfl) dJ8_charAt_15
theorem hd_X12_sortIn : yX12_sortIn.cls ≠ "java/lang/invoke/MethodHandle" ∧ yX12_sortIn.cls ≠ "java/lang/invoke/VarHandle" ∧ (parseMethodDescriptor yX12_sortIn.desc).map (fun d => d.parameters.length) = some 3 := by decide +kernel
set_option maxHeartbeats 4000000 in
theorem mX12_sortIn (l : Launch) (D : va_G) (d : Nat → ClassId) (cs : Nat → Nat) (wi : va_W) (ln : Nat → Option Int32) (lf : Nat → Nat → Option Nat) (dk : Nat → Option Nat) (dn : Nat → Int32) (him : ImF d wi ln lf dk dn) (p1 : Int32) (p2 : Int32) (hstr : StrF d cs wi) (res : Int32) (hf : fX12_sortIn p1 p2 = some res) : MetI l yX12_sortIn (ws_ yX12_sortIn cX12_sortIn 4 (some .int)) { frames := 4, cells := 0, slots := 0, locals := 85 } [.ref (cs 1), .int p1, .int p2] (XI D cs wi) D d [] (fun r (_ : Unit) => r = res) (fun _ => []) := by
  have hX := XI.ok (D := D) (cs := cs) (wi := wi)
  refine MetI.of (by decide +kernel) (Nat.le_of_ble_eq_true rfl) ?_
  intro p e s m below meth c A cx hw ls hl
  have cx : Cx p s m _ meth c (XI D cs wi) D d A "DishLift$Reader" cX12_sortIn 4 (some .int) "sortIn" := cx
  have cx' := cx
  obtain ⟨hx, hb, hr, hlk, hml, hown, hts, hK, hA, hXs, hnm⟩ := cx'
  have hl : lv_has ls 4 [(0, .ref (cs 1)), (1, .int p1), (2, .int p2)] := hl
  generalize hlo : ([] : List Loc) = locs at hw ⊢
  unfold fX12_sortIn at hf
  refine lv_iconst (v := 0) hx hb dX12_sortIn_0 (by decide) ?_
  refine lv_istore_n (lv' := [(3, .int 0), (0, .ref (cs 1)), (1, .int p1), (2, .int p2)]) hx hb dX12_sortIn_1 rfl hl (by decide) rfl (fun ls hl => ?_)
  obtain ⟨r1, hlp2, hf⟩ := op_e hf
  refine x_join (A := A) (D := D) (J := 30) (nL := 4) (cells' := 0) (slots' := 0) (st := []) [] [(0, .ref (cs 1)), (3, .int r1)] (fun H locs ls hw hl => ?_) (fun hK2 => ?_)
  · refine lv_iload_n hx hb dX12_sortIn_30 rfl (lv_at hl 1 rfl) ?_
    refine lv_aload_n hx hb dX12_sortIn_31 rfl (lv_at hl 0 rfl) ?_
    obtain ⟨q2, hcq2, hf⟩ := op_e hf
    refine x_VI (wr := []) (rest := [.int r1]) [] hX cx hw hl.1 (mJ8_length l  D d cs wi ln lf dk dn him hstr q2 hcq2) (lw_V q610 q611 q612 q102 q613) hd_J8_length ⟨(Nat.le_of_ble_eq_true rfl), (Nat.le_of_ble_eq_true rfl)⟩ (XI.sR hXs hw.2.2) rfl rfl (Nat.le_of_ble_eq_true rfl) dX12_sortIn_32 [] [] rfl rfl rfl rfl (by decide) ⟨(Nat.le_of_ble_eq_true rfl), (Nat.le_of_ble_eq_true rfl)⟩ (fun r u H locs hp hw => ?_)
    have hw : Wd D A s [] H locs := hw
    subst r
    refine lv_icmp_ge (tgt := 42) hx hb dX12_sortIn_35 (by decide) (fun c35 => ?_) (fun c35 => ?_)
    · have hf := if_t hf c35
      refine lv_ldc (v := (-1000000)) hx hb hown (hts _ q553) dX12_sortIn_42 ?_
      have hf := sm_e hf
      subst hf
      exact x_retI cx hw rfl () rfl [] rfl rfl (Nat.le_of_ble_eq_true rfl) (Nat.le_of_ble_eq_true rfl) dX12_sortIn_44
    · have hf := if_f hf c35
      refine lv_iload_n hx hb dX12_sortIn_38 rfl (lv_at hl 1 rfl) ?_
      refine lv_goto (tgt := 44) hx hb dX12_sortIn_39 (by decide) ?_
      have hf := sm_e hf
      subst hf
      exact x_retI cx hw rfl () rfl [] rfl rfl (Nat.le_of_ble_eq_true rfl) (Nat.le_of_ble_eq_true rfl) dX12_sortIn_44
  · refine x_lp hlp2 (fun x2 => []) (fun x2 => [(0, .ref (cs 1)), (1, .int p1), (2, .int p2), (3, .int x2)]) hw (lv_sub hl [1, 2, 3, 0] rfl) (fun x2 y2 hf hin2 hout2 H locs ls hw hl => ?_)
    have hw : Wd D A s [] H locs := hw
    have hl : lv_has ls 4 [(0, .ref (cs 1)), (1, .int p1), (2, .int p2), (3, .int x2)] := hl
    refine lv_iload_n hx hb dX12_sortIn_2 rfl (lv_at hl 3 rfl) ?_
    refine lv_aload_n hx hb dX12_sortIn_3 rfl (lv_at hl 0 rfl) ?_
    obtain ⟨q3, hcq3, hf⟩ := op_e hf
    refine x_VI (wr := []) (rest := [.int x2]) [] hX cx hw hl.1 (mJ8_length l  D d cs wi ln lf dk dn him hstr q3 hcq3) (lw_V q610 q611 q612 q102 q613) hd_J8_length ⟨(Nat.le_of_ble_eq_true rfl), (Nat.le_of_ble_eq_true rfl)⟩ (XI.sR hXs hw.2.2) rfl rfl (Nat.le_of_ble_eq_true rfl) dX12_sortIn_4 [] [] rfl rfl rfl rfl (by decide) ⟨(Nat.le_of_ble_eq_true rfl), (Nat.le_of_ble_eq_true rfl)⟩ (fun r u H locs hp hw => ?_)
    have hw : Wd D A s [] H locs := hw
    subst r
    refine lv_icmp_ge (tgt := 30) hx hb dX12_sortIn_7 (by decide) (fun c7 => ?_) (fun c7 => ?_)
    · have hf := if_t hf c7
      have hf := sm_e hf
      subst hf
      have hz := hout2 _ rfl
      subst hz
      exact hK2 _ _ _ hw (lv_sub hl [0, 3] rfl)
    · have hf := if_f hf c7
      refine lv_iload_n hx hb dX12_sortIn_10 rfl (lv_at hl 1 rfl) ?_
      refine lv_iconst (v := 1) hx hb dX12_sortIn_11 (by decide) ?_
      refine lv_icmp_ne (tgt := 24) hx hb dX12_sortIn_12 (by decide) (fun c12 => ?_) (fun c12 => ?_)
      · have hf := if_f hf c12
        refine lv_iinc (v := (x2 + 1)) (lv' := [(3, .int (x2 + 1)), (0, .ref (cs 1)), (1, .int p1), (2, .int p2)]) hx hb dX12_sortIn_24 hl (k := 3) rfl (by first | rfl | decide) (by decide) rfl (fun ls hl => ?_)
        refine lv_goto (tgt := 2) hx hb dX12_sortIn_27 (by decide) ?_
        have hf := sm_e hf
        subst hf
        exact hin2 _ rfl _ _ _ hw (lv_sub hl [1, 2, 3, 0] rfl)
      · have hf := if_t hf c12
        refine lv_aload_n hx hb dX12_sortIn_15 rfl (lv_at hl 0 rfl) ?_
        refine lv_iload_n hx hb dX12_sortIn_16 rfl (lv_at hl 3 rfl) ?_
        obtain ⟨q4, hcq4, hf⟩ := op_e hf
        refine x_VI (wr := []) (rest := []) [.int x2] hX cx hw hl.1 (mJ8_charAt l  D d cs wi ln lf dk dn him x2 hstr q4 hcq4) (lw_V q620 q621 q622 q102 q623) hd_J8_charAt ⟨(Nat.le_of_ble_eq_true rfl), (Nat.le_of_ble_eq_true rfl)⟩ (XI.sR hXs hw.2.2) rfl rfl (Nat.le_of_ble_eq_true rfl) dX12_sortIn_17 [] [] rfl rfl rfl rfl (by decide) ⟨(Nat.le_of_ble_eq_true rfl), (Nat.le_of_ble_eq_true rfl)⟩ (fun r u H locs hp hw => ?_)
        have hw : Wd D A s [] H locs := hw
        subst r
        refine lv_iload_n hx hb dX12_sortIn_20 rfl (lv_at hl 2 rfl) ?_
        refine lv_icmp_eq (tgt := 30) hx hb dX12_sortIn_21 (by decide) (fun c21 => ?_) (fun c21 => ?_)
        · have hf := if_t hf c21
          have hf := sm_e hf
          subst hf
          have hz := hout2 _ rfl
          subst hz
          exact hK2 _ _ _ hw (lv_sub hl [0, 3] rfl)
        · have hf := if_f hf c21
          refine lv_iinc (v := (x2 + 1)) (lv' := [(3, .int (x2 + 1)), (0, .ref (cs 1)), (1, .int p1), (2, .int p2)]) hx hb dX12_sortIn_24 hl (k := 3) rfl (by first | rfl | decide) (by decide) rfl (fun ls hl => ?_)
          refine lv_goto (tgt := 2) hx hb dX12_sortIn_27 (by decide) ?_
          have hf := sm_e hf
          subst hf
          exact hin2 _ rfl _ _ _ hw (lv_sub hl [1, 2, 3, 0] rfl)
theorem hd_X12_sortOf : yX12_sortOf.cls = "DishLift$Reader" ∧ yX12_sortOf.cls ≠ "java/lang/invoke/MethodHandle" ∧ yX12_sortOf.cls ≠ "java/lang/invoke/VarHandle" ∧ (parseMethodDescriptor yX12_sortOf.desc).map (fun d => d.parameters.length) = some 1 := by decide +kernel
set_option maxHeartbeats 4000000 in
theorem mX12_sortOf (l : Launch) (D : va_G) (d : Nat → ClassId) (cs : Nat → Nat) (wi : va_W) (ln : Nat → Option Int32) (lf : Nat → Nat → Option Nat) (dk : Nat → Option Nat) (dn : Nat → Int32) (him : ImF d wi ln lf dk dn) (ra : Nat) (sa : Nat → Nat) (ma : Nat → Nat) (rz : Int32) (rat : Int32) (rtk : Int32) (rfr : Int32) (rva : Int32) (hstr : StrF d cs wi) (res : Int32) (hf : fX12_sortOf rtk rva = some res) : MetI l yX12_sortOf (ws_ yX12_sortOf cX12_sortOf 2 (some .int)) { frames := 5, cells := 0, slots := 0, locals := 108 } [.ref ra, .ref (cs 1)] (XI D cs wi) D d [(ra, .inr (11, [.ref (sa 2), .int rz, .int rat, .int rtk, .int rfr, .int rva, .ref (ma 0)]))] (fun r (_ : Unit) => r = res) (fun _ => [(ra, .inr (11, [.ref (sa 2), .int rz, .int rat, .int rtk, .int rfr, .int rva, .ref (ma 0)]))]) := by
  have hX := XI.ok (D := D) (cs := cs) (wi := wi)
  refine MetI.of (by decide +kernel) (Nat.le_of_ble_eq_true rfl) ?_
  intro p e s m below meth c A cx hw ls hl
  have cx : Cx p s m _ meth c (XI D cs wi) D d A "DishLift$Reader" cX12_sortOf 2 (some .int) "sortOf" := cx
  have cx' := cx
  obtain ⟨hx, hb, hr, hlk, hml, hown, hts, hK, hA, hXs, hnm⟩ := cx'
  have hl : lv_has ls 2 [(0, .ref ra), (1, .ref (cs 1))] := hl
  generalize hlo : ([] : List Loc) = locs at hw ⊢
  unfold fX12_sortOf at hf
  refine lv_aload_n hx hb dX12_sortOf_0 rfl (lv_at hl 1 rfl) ?_
  refine lv_aload_n hx hb dX12_sortOf_1 rfl (lv_at hl 0 rfl) ?_
  refine va_get (ci := 11) (C := RX12) (T := TX12) (N := 7) hx hb hts in_X12 hown hK hw.1 0 rfl rfl 3 (by decide) (hts _ q521) (fun _ h9 => h9) rfl dX12_sortOf_2 ?_
  refine lv_aload_n hx hb dX12_sortOf_5 rfl (lv_at hl 0 rfl) ?_
  refine va_get (ci := 11) (C := RX12) (T := TX12) (N := 7) hx hb hts in_X12 hown hK hw.1 0 rfl rfl 5 (by decide) (hts _ q523) (fun _ h9 => h9) rfl dX12_sortOf_6 ?_
  obtain ⟨q1, hcq1, hf⟩ := op_e hf
  refine x_SI (wr := [(ra, .inr (11, [.ref (sa 2), .int rz, .int rat, .int rtk, .int rfr, .int rva, .ref (ma 0)]))]) (rest := []) [.ref (cs 1), .int rtk, .int rva] hX cx hw hl.1 (mX12_sortIn l  D d cs wi ln lf dk dn him rtk rva hstr q1 hcq1) (lw_S q607 q608 q104 q609) hd_X12_sortIn ⟨(Nat.le_of_ble_eq_true rfl), (Nat.le_of_ble_eq_true rfl)⟩ rfl rfl (Nat.le_of_ble_eq_true rfl) dX12_sortOf_9 [] [0] rfl rfl rfl rfl (by decide) ⟨(Nat.le_of_ble_eq_true rfl), (Nat.le_of_ble_eq_true rfl)⟩ (fun r u H locs hp hw => ?_)
  have hw : Wd D A s [(ra, .inr (11, [.ref (sa 2), .int rz, .int rat, .int rtk, .int rfr, .int rva, .ref (ma 0)]))] H locs := hw
  subst r
  have hf := sm_e hf
  subst hf
  exact x_retI cx hw rfl () rfl [0] rfl rfl (Nat.le_of_ble_eq_true rfl) (Nat.le_of_ble_eq_true rfl) dX12_sortOf_12
