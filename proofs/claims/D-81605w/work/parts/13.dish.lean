/-! LISTS AND DISHES: List.size, List.get, the cast to Dish, calls by kind -/
set_option maxRecDepth 100000
abbrev oH (a : Nat → Nat) (fl ro rp ca wy : Int32) (la : Nat) (mi tf : Int32) (tk : Option Nat) : Nat × va_E := ((a 0), .inr (2, [.int fl, .int ro, .int rp, .int ca, .int wy, .ref la, .ref (a 1), .ref (a 2), .ref (a 3), .ref (a 4), .ref (a 5), .ref (a 6), .int mi, .int tf, va_rf tk]))
abbrev oS (sa ha ta : Nat → Nat) (gt gf gc : Int32) (tra : Nat) (gs : Int32) : Nat × va_E := ((sa 0), .inr (1, [.ref (sa 1), .ref (sa 2), .int gt, .int gf, .ref (ha 0), .ref (ta 0), .ref (sa 3), .int gc, .ref (sa 4), .ref tra, .int gs, .ref (sa 5), .ref (sa 6), .ref (sa 7)]))
theorem mJ2_size (l : Launch) (D : va_G) (d : Nat → ClassId) (cs : Nat → Nat) (wi : va_W) (la ea : Nat) (mc N : Int32) (hla : (la, .inr (3, [.int mc, .ref ea, .int N])) ∈ wi) : MetI l yJ2_size (ws_ yJ2_size cJ2_size 1 (some .int)) { frames := 0, cells := 0, slots := 0, locals := 0 } [.ref la] (XI D cs wi) D d [] (fun r (_ : Unit) => r = N) (fun _ => []) := by
  refine MetI.of (by decide +kernel) (Nat.le_of_ble_eq_true rfl) ?_
  intro p e s m below meth c A cx hw ls hl
  have cx : Cx p s m _ meth c (XI D cs wi) D d A "java/util/ArrayList" cJ2_size 1 (some .int) "size" := cx
  have cx' := cx
  obtain ⟨hx, hb, hr, hlk, hml, hown, hts, hK, hA, hXs, hnm⟩ := cx'
  have hl : lv_has ls 1 [(0, .ref la)] := hl
  have hPi := XI.at hXs hw
  obtain ⟨k0, hk0⟩ := List.getElem?_of_mem hla
  refine lv_aload_n hx hb dJ2_size_0 rfl (lv_at hl 0 rfl) ?_
  refine va_get (ci := 3) (C := RJ2) (T := TJ2) (N := 3) hx hb hts in_J2 hown hK hPi k0 hk0 rfl 2 (by decide) (hts _ q146) (fun _ h9 => h9) rfl dJ2_size_1 ?_
  exact x_retI cx hw rfl () rfl [] rfl rfl (Nat.le_of_ble_eq_true rfl) (Nat.le_of_ble_eq_true rfl) dJ2_size_4
theorem mJ2_elementData (l : Launch) (D : va_G) (d : Nat → ClassId) (cs : Nat → Nat) (wi : va_W) (la ea cap : Nat) (mc N : Int32) (f : Nat → Option Nat) (hla : (la, .inr (3, [.int mc, .ref ea, .int N])) ∈ wi) (hea : (ea, .inl (d 6, cap, .inr (.inr (.inr (.inr f))))) ∈ wi) (p1 : Int32) (a : Nat) (hin : vp_in p1 cap) (hfa : f p1.toNatClampNeg = some a) : MetA l yJ2_elementData (ws_ yJ2_elementData cJ2_elementData 2 (some (.object "java/lang/Object"))) { frames := 0, cells := 0, slots := 0, locals := 0 } [.ref la, .int p1] (XI D cs wi) D d [] a (fun (_ : Unit) => True) (fun _ => []) := by
  refine MetA.of (by decide +kernel) (Nat.le_of_ble_eq_true rfl) ?_
  intro p e s m below meth c A cx hw ls hl
  have cx : Cx p s m _ meth c (XI D cs wi) D d A "java/util/ArrayList" cJ2_elementData 2 (some (.object "java/lang/Object")) "elementData" := cx
  have cx' := cx
  obtain ⟨hx, hb, hr, hlk, hml, hown, hts, hK, hA, hXs, hnm⟩ := cx'
  have hl : lv_has ls 2 [(0, .ref la), (1, .int p1)] := hl
  have hPi := XI.at hXs hw
  obtain ⟨k0, hk0⟩ := List.getElem?_of_mem hla
  obtain ⟨k1, hk1⟩ := List.getElem?_of_mem hea
  refine lv_aload_n hx hb dJ2_elementData_0 rfl (lv_at hl 0 rfl) ?_
  refine va_get (ci := 3) (C := RJ2) (T := TJ2) (N := 3) hx hb hts in_J2 hown hK hPi k0 hk0 rfl 1 (by decide) (hts _ q145) (fun _ h9 => h9) rfl dJ2_elementData_1 ?_
  refine lv_iload_n hx hb dJ2_elementData_4 rfl (lv_at hl 1 rfl) ?_
  refine va_aldq hx hb hK hPi k1 6 hk1 rfl hin dJ2_elementData_5 ?_
  rw [hfa]
  exact x_retA cx hw (Or.inl ⟨_, rfl⟩) () trivial [] rfl rfl (Nat.le_of_ble_eq_true rfl) (Nat.le_of_ble_eq_true rfl) dJ2_elementData_6
theorem hd_J2_elementData : yJ2_elementData.cls = "java/util/ArrayList" ∧ yJ2_elementData.cls ≠ "java/lang/invoke/MethodHandle" ∧ yJ2_elementData.cls ≠ "java/lang/invoke/VarHandle" ∧ (parseMethodDescriptor yJ2_elementData.desc).map (fun d => d.parameters.length) = some 1 := by decide +kernel
theorem in_cap {p N : Int32} {cap : Nat} (h0 : ¬ p < 0) (h1 : p < N) (h2 : N.toNatClampNeg ≤ cap) : vp_in p cap := by
  have e0 : ¬ p.toInt < (0 : Int32).toInt := fun q => h0 (Int32.lt_iff_toInt_lt.mpr q)
  have e1 := Int32.lt_iff_toInt_lt.mp h1
  have e2 : (0 : Int32).toInt = 0 := by decide
  rw [e2] at e0
  have a1 : p.toNatClampNeg = p.toInt.toNat := rfl
  have a2 : N.toNatClampNeg = N.toInt.toNat := rfl
  intro h
  rcases h with h | h
  · exact h0 h
  · omega
theorem mJ2_get (l : Launch) (D : va_G) (d : Nat → ClassId) (cs : Nat → Nat) (wi : va_W) (la ea cap : Nat) (mc N : Int32) (f : Nat → Option Nat) (hla : (la, .inr (3, [.int mc, .ref ea, .int N])) ∈ wi) (hea : (ea, .inl (d 6, cap, .inr (.inr (.inr (.inr f))))) ∈ wi) (p1 : Int32) (a : Nat) (h0 : ¬ p1 < 0) (h1 : p1 < N) (hcap : N.toNatClampNeg ≤ cap) (hfa : f p1.toNatClampNeg = some a) : MetA l yJ2_get (ws_ yJ2_get cJ2_get 2 (some (.object "java/lang/Object"))) { frames := 2, cells := 0, slots := 0, locals := 80 } [.ref la, .int p1] (XI D cs wi) D d [] a (fun (_ : Unit) => True) (fun _ => []) := by
  have hX := XI.ok (D := D) (cs := cs) (wi := wi)
  refine MetA.of (by decide +kernel) (Nat.le_of_ble_eq_true rfl) ?_
  intro p e s m below meth c A cx hw ls hl
  have cx : Cx p s m _ meth c (XI D cs wi) D d A "java/util/ArrayList" cJ2_get 2 (some (.object "java/lang/Object")) "get" := cx
  have cx' := cx
  obtain ⟨hx, hb, hr, hlk, hml, hown, hts, hK, hA, hXs, hnm⟩ := cx'
  have hl : lv_has ls 2 [(0, .ref la), (1, .int p1)] := hl
  have hPi := XI.at hXs hw
  obtain ⟨k0, hk0⟩ := List.getElem?_of_mem hla
  have hc : fJ16_checkIndex p1 N = some p1 := by simp [fJ16_checkIndex, fJ10_checkIndex, h0, h1]
  refine lv_iload_n hx hb dJ2_get_0 rfl (lv_at hl 1 rfl) ?_
  refine lv_aload_n hx hb dJ2_get_1 rfl (lv_at hl 0 rfl) ?_
  refine va_get (ci := 3) (C := RJ2) (T := TJ2) (N := 3) hx hb hts in_J2 hown hK hPi k0 hk0 rfl 2 (by decide) (hts _ q146) (fun _ h9 => h9) rfl dJ2_get_2 ?_
  refine x_SI (wr := []) (rest := []) [.int p1, .int N] hX cx hw hl.1 (mJ16_checkIndex l (XI D cs wi) hX D d p1 N p1 hc) (lw_S q826 q827 q113 q828) hd_J16_checkIndex ⟨(Nat.le_of_ble_eq_true rfl), (Nat.le_of_ble_eq_true rfl)⟩ rfl rfl (Nat.le_of_ble_eq_true rfl) dJ2_get_5 [] [] rfl rfl rfl rfl (by decide) ⟨(Nat.le_of_ble_eq_true rfl), (Nat.le_of_ble_eq_true rfl)⟩ (fun r u H locs hp hw => ?_)
  have hw : Wd D A s [] H locs := hw
  subst hp
  refine lv_pop hx hb dJ2_get_8 rfl ?_
  refine lv_aload_n hx hb dJ2_get_9 rfl (lv_at hl 0 rfl) ?_
  refine lv_iload_n hx hb dJ2_get_10 rfl (lv_at hl 1 rfl) ?_
  refine x_VA (wr := []) (rest := []) [.int r] hX cx hw hl.1 (mJ2_elementData l D d cs wi la ea cap mc N f hla hea r a (in_cap h0 h1 hcap) hfa) (lw_V q830 q831 q832 q86 q833) hd_J2_elementData ⟨(Nat.le_of_ble_eq_true rfl), (Nat.le_of_ble_eq_true rfl)⟩ (dish_recv hXs hK hw hla rfl) rfl rfl (Nat.le_of_ble_eq_true rfl) dJ2_get_11 [] [] rfl rfl rfl rfl (by decide) ⟨(Nat.le_of_ble_eq_true rfl), (Nat.le_of_ble_eq_true rfl)⟩ (fun u H locs hp hw => ?_)
  have hw : Wd D A s [] H locs := hw
  exact x_retA cx hw (Or.inl ⟨_, rfl⟩) () trivial [] rfl rfl (Nat.le_of_ble_eq_true rfl) (Nat.le_of_ble_eq_true rfl) dJ2_get_14
section XL
variable {p : Program} {l : Launch} {e : Env} {R : Room} {s : State} {m : MethodId} {args : Array Value} {below : List Frame} {meth : Method} {c : Code} {H : Heap} {locs : List Loc} {cells slots : Nat} {Q : State → Prop}
variable {cc : ByteArray} {pc : Nat} {ls : Array Slot} {rest : List Value} {D : va_G} {d : Nat → ClassId} {A : Nat → Prop} {a : Nat} {ws : va_W} {own nm : String} {nL : Nat} {ret : Option FieldType}
variable {cs : Nat → Nat} {wi : va_W} {ln : Nat → Option Int32} {lf : Nat → Nat → Option Nat} {dk : Nat → Option Nat} {dn : Nat → Int32}
theorem x_aald {q0 t0 n di : Nat} {f : Nat → Option Nat} {i : Int32} {v : Option Nat} {C : String} {X : XT} (cx : Cx p s m args meth c X D d A own cc nL ret nm) (hw : Wd D A s ws H locs) (ha : ws[q0]? = some (a, .inl (d di, n, .inr (.inr (.inr (.inr f)))))) (ht : (tyA d)[t0]? = some (d di, .object C)) (hv : rdq f n i = some v) (hdg : decode cc pc = .ok (.aaload, 1))
    (kk : W p l e R s m args below meth c H locs cells slots Q (F0 m (pc + 1) ls (va_rf v :: rest))) : W p l e R s m args below meth c H locs cells slots Q (F0 m pc ls (.int i :: .ref a :: rest)) := by
  obtain ⟨hin, rfl⟩ := rdq_spec hv
  exact va_aldq cx.1 cx.2.1 cx.2.2.2.2.2.2.2.1 hw.1 q0 t0 ha ht hin hdg kk
theorem x_size {la idx cnt : Nat} {v : Int32} (him : ImF d wi ln lf dk dn) (hv : ln la = some v) (cx : Cx p s m args meth c (XI D cs wi) D d A own cc nL ret nm) (hw : Wd D A s ws H locs) (hl : ls.size = nL) (hlink : Cond.methodLink own idx ⟨"java/util/List", "size", "()I"⟩ ∈ lw_all) (hR : 1 ≤ R.frames ∧ 40 ≤ R.locals) (hWr : (rest.map fun v => v.category).sum ≤ 8) (hf : cells ≤ R.cells ∧ slots ≤ R.slots) (hdg : decode cc pc = .ok (.invokeinterface idx cnt, 5))
    (kk : ∀ (H1 : Heap) (locs1 : List Loc), Wd D A s ws H1 locs1 → W p l e R s m args below meth c H1 locs1 cells slots Q (F0 m (pc + 5) ls (.int v :: rest))) : W p l e R s m args below meth c H locs cells slots Q (F0 m pc ls (.ref la :: rest)) := by
  have hX := XI.ok (D := D) (cs := cs) (wi := wi)
  obtain ⟨mc, ea, cap, hla, -⟩ := him.1 la v hv
  have cx' := cx
  obtain ⟨hx, hb, hr, hlk, hml, hown, hts, hK, hA, hXs, hnm⟩ := cx'
  refine x_FI0 (n := 0) (x := ⟨"java/util/List", "size", "()I"⟩) (rest := rest) (C := "java/util/ArrayList") [] hX cx hw hl (hK.1 3 _ rfl).2 (mJ2_size l D d cs wi la ea mc v hla) (lw_F hlink q671 q673 q86 q675) (Tb.Fw (by decide) q669 q668 q674 q672 q670 hXs.1) ⟨by decide, by decide, by decide +kernel⟩ ⟨hR.1, Nat.le_trans (Nat.le_of_ble_eq_true rfl) hR.2⟩ (dish_recv hXs hK hw hla rfl) rfl rfl hWr hdg hf (fun r u H1 locs1 hp hw => ?_)
  subst hp
  exact W.widen (Nat.le_refl _) (Nat.le_refl _) (kk H1 locs1 hw)
theorem x_lget {la idx cnt v : Nat} {i : Int32} (him : ImF d wi ln lf dk dn) (hv : lget ln lf la i = some v) (cx : Cx p s m args meth c (XI D cs wi) D d A own cc nL ret nm) (hw : Wd D A s ws H locs) (hl : ls.size = nL) (hlink : Cond.methodLink own idx ⟨"java/util/List", "get", "(I)Ljava/lang/Object;"⟩ ∈ lw_all) (hR : 3 ≤ R.frames ∧ 120 ≤ R.locals) (hWr : (rest.map fun v => v.category).sum ≤ 8) (hf : cells ≤ R.cells ∧ slots ≤ R.slots) (hdg : decode cc pc = .ok (.invokeinterface idx cnt, 5))
    (kk : ∀ (H1 : Heap) (locs1 : List Loc), Wd D A s ws H1 locs1 → W p l e R s m args below meth c H1 locs1 cells slots Q (F0 m (pc + 5) ls (.ref v :: rest))) : W p l e R s m args below meth c H locs cells slots Q (F0 m pc ls (.int i :: .ref la :: rest)) := by
  have hX := XI.ok (D := D) (cs := cs) (wi := wi)
  obtain ⟨N, hN, hv⟩ := op_e hv
  obtain ⟨mc, ea, cap, hla, hea, hcap, -⟩ := him.1 la N hN
  have cx' := cx
  obtain ⟨hx, hb, hr, hlk, hml, hown, hts, hK, hA, hXs, hnm⟩ := cx'
  by_cases h0 : i < 0
  · rw [if_pos h0] at hv; cases hv
  rw [if_neg h0] at hv
  by_cases h1 : i < N
  · rw [if_pos h1] at hv
    have hN0 : ¬ N = 0 := fun e => h0 (by rw [e] at h1; exact h1)
    refine x_FA0 (n := 1) (x := ⟨"java/util/List", "get", "(I)Ljava/lang/Object;"⟩) (rest := rest) (C := "java/util/ArrayList") [.int i] hX cx hw hl (hK.1 3 _ rfl).2 (mJ2_get l D d cs wi la ea cap mc N (lf la) hla (hea hN0) i v h0 h1 (hcap hN0) hv) (lw_F hlink q821 q823 q86 q825) (Tb.Fw (by decide) q820 q819 q824 q822 q670 hXs.1) ⟨by decide, by decide, by decide +kernel⟩ ⟨hR.1, Nat.le_trans (Nat.le_of_ble_eq_true rfl) hR.2⟩ (dish_recv hXs hK hw hla rfl) rfl rfl hWr hdg hf (fun u H1 locs1 hp hw => ?_)
    exact W.widen (Nat.le_refl _) (Nat.le_refl _) (kk H1 locs1 hw)
  · rw [if_neg h1] at hv; cases hv
theorem k5 {P : Nat → Prop} {k : Nat} (hk : k < 5) (h0 : P 0) (h1 : P 1) (h2 : P 2) (h3 : P 3) (h4 : P 4) : P k := by
  match k, hk with
  | 0, _ => exact h0
  | 1, _ => exact h1
  | 2, _ => exact h2
  | 3, _ => exact h3
  | 4, _ => exact h4
/-- the cast of a dish to Dish -/
theorem x_cast {a idx k : Nat} (him : ImF d wi ln lf dk dn) (hv : dk a = some k) (cx : Cx p s m args meth c (XI D cs wi) D d A own cc nL ret nm) (hw : Wd D A s ws H locs) (hlink : (Cond.classLink own idx "DishLift$Dish").before args s = true) (hdg : decode cc pc = .ok (.checkcast idx, 3))
    (kk : W p l e R s m args below meth c H locs cells slots Q (F0 m (pc + 3) ls (.ref a :: rest))) : W p l e R s m args below meth c H locs cells slots Q (F0 m pc ls (.ref a :: rest)) := by
  obtain ⟨hk, hm⟩ := him.2 a k hv
  obtain ⟨hx, hb, hr, hlk, hml, hown, hts, hK, hA, hXs, hnm⟩ := cx
  have h5 : k = 0 ∨ k = 1 ∨ k = 2 ∨ k = 3 ∨ k = 4 := by omega
  rcases h5 with rfl | rfl | rfl | rfl | rfl
  · exact va_castY (C := "DishLift$Hot") hx hb hown hlink (Tb.cast q1693 hXs.1) (dish_recv hXs hK hw hm rfl) hdg kk
  · exact va_castY (C := "DishLift$Soup") hx hb hown hlink (Tb.cast q1696 hXs.1) (dish_recv hXs hK hw hm rfl) hdg kk
  · exact va_castY (C := "DishLift$Roast") hx hb hown hlink (Tb.cast q1695 hXs.1) (dish_recv hXs hK hw hm rfl) hdg kk
  · exact va_castY (C := "DishLift$Cold") hx hb hown hlink (Tb.cast q1692 hXs.1) (dish_recv hXs hK hw hm rfl) hdg kk
  · exact va_castY (C := "DishLift$Ice") hx hb hown hlink (Tb.cast q1694 hXs.1) (dish_recv hXs hK hw hm rfl) hdg kk
end XL
theorem mX3_number (l : Launch) (D : va_G) (d : Nat → ClassId) (cs : Nat → Nat) (wi : va_W) (ln : Nat → Option Int32) (lf : Nat → Nat → Option Nat) (dk : Nat → Option Nat) (dn : Nat → Int32) (him : ImF d wi ln lf dk dn) (a k : Nat) (hk : dk a = some k) : MetI l yX3_number (ws_ yX3_number cX3_number 1 (some .int)) { frames := 0, cells := 0, slots := 0, locals := 0 } [.ref a] (XI D cs wi) D d [] (fun r (_ : Unit) => r = dn a) (fun _ => []) := by
  refine MetI.of (by decide +kernel) (Nat.le_of_ble_eq_true rfl) ?_
  intro p e s m below meth c A cx hw ls hl
  have cx : Cx p s m _ meth c (XI D cs wi) D d A "DishLift$Dish" cX3_number 1 (some .int) "number" := cx
  have cx' := cx
  obtain ⟨hx, hb, hr, hlk, hml, hown, hts, hK, hA, hXs, hnm⟩ := cx'
  have hl : lv_has ls 1 [(0, .ref a)] := hl
  have hPi := XI.at hXs hw
  obtain ⟨hk5, hm⟩ := him.2 a k hk
  refine lv_aload_n hx hb dX3_number_0 rfl (lv_at hl 0 rfl) ?_
  have h5 : k = 0 ∨ k = 1 ∨ k = 2 ∨ k = 3 ∨ k = 4 := by omega
  rcases h5 with rfl | rfl | rfl | rfl | rfl
  · obtain ⟨k0, hk0⟩ := List.getElem?_of_mem hm
    refine va_get (ci := 5) (C := RX4) (T := TX4) (N := 1) hx hb hts in_X4 hown hK hPi k0 hk0 rfl 0 (by decide) (hts _ q258) (fun _ h9 => h9) rfl dX3_number_1 ?_
    exact x_retI cx hw rfl () rfl [] rfl rfl (Nat.le_of_ble_eq_true rfl) (Nat.le_of_ble_eq_true rfl) dX3_number_4
  · obtain ⟨k0, hk0⟩ := List.getElem?_of_mem hm
    refine va_get (ci := 6) (C := RX5) (T := TX5) (N := 1) hx hb hts in_X5 hown hK hPi k0 hk0 rfl 0 (by decide) (hts _ q258) (fun _ h9 => h9) rfl dX3_number_1 ?_
    exact x_retI cx hw rfl () rfl [] rfl rfl (Nat.le_of_ble_eq_true rfl) (Nat.le_of_ble_eq_true rfl) dX3_number_4
  · obtain ⟨k0, hk0⟩ := List.getElem?_of_mem hm
    refine va_get (ci := 7) (C := RX6) (T := TX6) (N := 1) hx hb hts in_X6 hown hK hPi k0 hk0 rfl 0 (by decide) (hts _ q258) (fun _ h9 => h9) rfl dX3_number_1 ?_
    exact x_retI cx hw rfl () rfl [] rfl rfl (Nat.le_of_ble_eq_true rfl) (Nat.le_of_ble_eq_true rfl) dX3_number_4
  · obtain ⟨k0, hk0⟩ := List.getElem?_of_mem hm
    refine va_get (ci := 8) (C := RX7) (T := TX7) (N := 1) hx hb hts in_X7 hown hK hPi k0 hk0 rfl 0 (by decide) (hts _ q258) (fun _ h9 => h9) rfl dX3_number_1 ?_
    exact x_retI cx hw rfl () rfl [] rfl rfl (Nat.le_of_ble_eq_true rfl) (Nat.le_of_ble_eq_true rfl) dX3_number_4
  · obtain ⟨k0, hk0⟩ := List.getElem?_of_mem hm
    refine va_get (ci := 9) (C := RX8) (T := TX8) (N := 1) hx hb hts in_X8 hown hK hPi k0 hk0 rfl 0 (by decide) (hts _ q258) (fun _ h9 => h9) rfl dX3_number_1 ?_
    exact x_retI cx hw rfl () rfl [] rfl rfl (Nat.le_of_ble_eq_true rfl) (Nat.le_of_ble_eq_true rfl) dX3_number_4
section XD
variable {p : Program} {l : Launch} {e : Env} {R : Room} {s : State} {m : MethodId} {args : Array Value} {below : List Frame} {meth : Method} {c : Code} {H : Heap} {locs : List Loc} {cells slots : Nat} {Q : State → Prop}
variable {cc : ByteArray} {pc : Nat} {ls : Array Slot} {rest : List Value} {D : va_G} {d : Nat → ClassId} {A : Nat → Prop} {a : Nat} {ws : va_W} {own nm : String} {nL : Nat} {ret : Option FieldType}
variable {cs : Nat → Nat} {wi : va_W} {ln : Nat → Option Int32} {lf : Nat → Nat → Option Nat} {dk : Nat → Option Nat} {dn : Nat → Int32}
def fdish_heatBehind (dk : Nat → Option Nat) (a : Nat) (p1 : Int32) (p2 : Int32) : Option Int32 := (dk a).bind fun k => if k = 0 then fX4_heatBehind p1 else if k = 1 then fX4_heatBehind p1 else if k = 2 then fX6_heatBehind p1 p2 else if k = 3 then fX7_heatBehind p1 else fX7_heatBehind p1
theorem x_heatBehind {a idx : Nat} {p1 p2 v : Int32} (him : ImF d wi ln lf dk dn) (hv : fdish_heatBehind dk a p1 p2 = some v) (cx : Cx p s m args meth c (XI D cs wi) D d A own cc nL ret nm) (hw : Wd D A s ws H locs) (hl : ls.size = nL) (hlink : Cond.methodLink own idx ⟨"DishLift$Dish", "heatBehind", "(II)I"⟩ ∈ lw_all) (hR : 3 ≤ R.frames ∧ 120 ≤ R.locals) (hWr : (rest.map fun v => v.category).sum ≤ 8) (hf : cells ≤ R.cells ∧ slots ≤ R.slots) (hdg : decode cc pc = .ok (.invokevirtual idx, 3))
    (kk : ∀ (H1 : Heap) (locs1 : List Loc), Wd D A s ws H1 locs1 → W p l e R s m args below meth c H1 locs1 cells slots Q (F0 m (pc + 3) ls (.int v :: rest))) : W p l e R s m args below meth c H locs cells slots Q (F0 m pc ls (.int p2 :: .int p1 :: .ref a :: rest)) := by
  have hX := XI.ok (D := D) (cs := cs) (wi := wi)
  obtain ⟨k, hk, hv⟩ := op_e hv
  obtain ⟨hk5, hm⟩ := him.2 a k hk
  have cx' := cx
  obtain ⟨hx, hb, hr, hlk, hml, hown, hts, hK, hA, hXs, hnm⟩ := cx'
  have h5 : k = 0 ∨ k = 1 ∨ k = 2 ∨ k = 3 ∨ k = 4 := by omega
  rcases h5 with rfl | rfl | rfl | rfl | rfl
  · have hv : fX4_heatBehind p1 = some v := hv
    refine x_UI0 (n := 2) (x := ⟨"DishLift$Dish", "heatBehind", "(II)I"⟩) (owner := "DishLift$Dish") (C := "DishLift$Hot") (rest := rest) [.int p1, .int p2] hX cx hw hl (mX4_heatBehind l (XI D cs wi) hX D d a p1 p2 v hv) (va_cwA 2 hts (lw_U hlink q837 q842 q843 q89 q844) rfl rfl rfl (Tb.decl q836 hXs.1) ⟨by decide, by decide, by decide +kernel⟩ ⟨Nat.le_trans (Nat.le_of_ble_eq_true rfl) hR.1, Nat.le_trans (Nat.le_of_ble_eq_true rfl) hR.2⟩) (dish_recv hXs hK hw hm rfl) rfl rfl hWr hdg hf (fun r u H1 locs1 hp hw => ?_)
    subst hp
    exact W.widen (Nat.le_refl _) (Nat.le_refl _) (kk H1 locs1 hw)
  · have hv : fX4_heatBehind p1 = some v := hv
    refine x_UI0 (n := 2) (x := ⟨"DishLift$Dish", "heatBehind", "(II)I"⟩) (owner := "DishLift$Dish") (C := "DishLift$Soup") (rest := rest) [.int p1, .int p2] hX cx hw hl (mX4_heatBehind l (XI D cs wi) hX D d a p1 p2 v hv) (va_cwA 2 hts (lw_U hlink q837 q851 q843 q89 q844) rfl rfl rfl (Tb.decl q836 hXs.1) ⟨by decide, by decide, by decide +kernel⟩ ⟨Nat.le_trans (Nat.le_of_ble_eq_true rfl) hR.1, Nat.le_trans (Nat.le_of_ble_eq_true rfl) hR.2⟩) (dish_recv hXs hK hw hm rfl) rfl rfl hWr hdg hf (fun r u H1 locs1 hp hw => ?_)
    subst hp
    exact W.widen (Nat.le_refl _) (Nat.le_refl _) (kk H1 locs1 hw)
  · have hv : fX6_heatBehind p1 p2 = some v := hv
    refine x_UI0 (n := 2) (x := ⟨"DishLift$Dish", "heatBehind", "(II)I"⟩) (owner := "DishLift$Dish") (C := "DishLift$Roast") (rest := rest) [.int p1, .int p2] hX cx hw hl (mX6_heatBehind l D d cs wi ln lf dk dn him a p1 p2 ⟨_, hm⟩ v hv) (va_cwA 2 hts (lw_U hlink q837 q847 q848 q91 q849) rfl rfl rfl (Tb.decl q836 hXs.1) ⟨by decide, by decide, by decide +kernel⟩ ⟨Nat.le_trans (Nat.le_of_ble_eq_true rfl) hR.1, Nat.le_trans (Nat.le_of_ble_eq_true rfl) hR.2⟩) (dish_recv hXs hK hw hm rfl) rfl rfl hWr hdg hf (fun r u H1 locs1 hp hw => ?_)
    subst hp
    exact W.widen (Nat.le_refl _) (Nat.le_refl _) (kk H1 locs1 hw)
  · have hv : fX7_heatBehind p1 = some v := hv
    refine x_UI0 (n := 2) (x := ⟨"DishLift$Dish", "heatBehind", "(II)I"⟩) (owner := "DishLift$Dish") (C := "DishLift$Cold") (rest := rest) [.int p1, .int p2] hX cx hw hl (mX7_heatBehind l (XI D cs wi) hX D d a p1 p2 v hv) (va_cwA 2 hts (lw_U hlink q837 q838 q839 q92 q840) rfl rfl rfl (Tb.decl q836 hXs.1) ⟨by decide, by decide, by decide +kernel⟩ ⟨Nat.le_trans (Nat.le_of_ble_eq_true rfl) hR.1, Nat.le_trans (Nat.le_of_ble_eq_true rfl) hR.2⟩) (dish_recv hXs hK hw hm rfl) rfl rfl hWr hdg hf (fun r u H1 locs1 hp hw => ?_)
    subst hp
    exact W.widen (Nat.le_refl _) (Nat.le_refl _) (kk H1 locs1 hw)
  · have hv : fX7_heatBehind p1 = some v := hv
    refine x_UI0 (n := 2) (x := ⟨"DishLift$Dish", "heatBehind", "(II)I"⟩) (owner := "DishLift$Dish") (C := "DishLift$Ice") (rest := rest) [.int p1, .int p2] hX cx hw hl (mX7_heatBehind l (XI D cs wi) hX D d a p1 p2 v hv) (va_cwA 2 hts (lw_U hlink q837 q846 q839 q92 q840) rfl rfl rfl (Tb.decl q836 hXs.1) ⟨by decide, by decide, by decide +kernel⟩ ⟨Nat.le_trans (Nat.le_of_ble_eq_true rfl) hR.1, Nat.le_trans (Nat.le_of_ble_eq_true rfl) hR.2⟩) (dish_recv hXs hK hw hm rfl) rfl rfl hWr hdg hf (fun r u H1 locs1 hp hw => ?_)
    subst hp
    exact W.widen (Nat.le_refl _) (Nat.le_refl _) (kk H1 locs1 hw)
def fdish_weightBehind (dk : Nat → Option Nat) (a : Nat) (p1 : Int32) (p2 : Int32) (p3 : Int32) : Option Int32 := (dk a).bind fun k => if k = 0 then fX3_weightBehind p1 else if k = 1 then fX5_weightBehind p1 p3 else if k = 2 then fX3_weightBehind p1 else if k = 3 then fX3_weightBehind p1 else fX8_weightBehind p1 p2
theorem x_weightBehind {a idx : Nat} {p1 p2 p3 v : Int32} (him : ImF d wi ln lf dk dn) (hv : fdish_weightBehind dk a p1 p2 p3 = some v) (cx : Cx p s m args meth c (XI D cs wi) D d A own cc nL ret nm) (hw : Wd D A s ws H locs) (hl : ls.size = nL) (hlink : Cond.methodLink own idx ⟨"DishLift$Dish", "weightBehind", "(IIZ)I"⟩ ∈ lw_all) (hR : 2 ≤ R.frames ∧ 80 ≤ R.locals) (hWr : (rest.map fun v => v.category).sum ≤ 8) (hf : cells ≤ R.cells ∧ slots ≤ R.slots) (hdg : decode cc pc = .ok (.invokevirtual idx, 3))
    (kk : ∀ (H1 : Heap) (locs1 : List Loc), Wd D A s ws H1 locs1 → W p l e R s m args below meth c H1 locs1 cells slots Q (F0 m (pc + 3) ls (.int v :: rest))) : W p l e R s m args below meth c H locs cells slots Q (F0 m pc ls (.int p3 :: .int p2 :: .int p1 :: .ref a :: rest)) := by
  have hX := XI.ok (D := D) (cs := cs) (wi := wi)
  obtain ⟨k, hk, hv⟩ := op_e hv
  obtain ⟨hk5, hm⟩ := him.2 a k hk
  have cx' := cx
  obtain ⟨hx, hb, hr, hlk, hml, hown, hts, hK, hA, hXs, hnm⟩ := cx'
  have h5 : k = 0 ∨ k = 1 ∨ k = 2 ∨ k = 3 ∨ k = 4 := by omega
  rcases h5 with rfl | rfl | rfl | rfl | rfl
  · have hv : fX3_weightBehind p1 = some v := hv
    refine x_UI0 (n := 3) (x := ⟨"DishLift$Dish", "weightBehind", "(IIZ)I"⟩) (owner := "DishLift$Dish") (C := "DishLift$Hot") (rest := rest) [.int p1, .int p2, .int p3] hX cx hw hl (mX3_weightBehind l (XI D cs wi) hX D d a p1 p2 p3 v hv) (va_cwU 3 hts (lw_U hlink q854 q856 q853 q88 q866) rfl rfl rfl rfl ⟨by decide, by decide, by decide +kernel⟩ ⟨Nat.le_trans (Nat.le_of_ble_eq_true rfl) hR.1, Nat.le_trans (Nat.le_of_ble_eq_true rfl) hR.2⟩) (dish_recv hXs hK hw hm rfl) rfl rfl hWr hdg hf (fun r u H1 locs1 hp hw => ?_)
    subst hp
    exact W.widen (Nat.le_refl _) (Nat.le_refl _) (kk H1 locs1 hw)
  · have hv : fX5_weightBehind p1 p3 = some v := hv
    refine x_UI0 (n := 3) (x := ⟨"DishLift$Dish", "weightBehind", "(IIZ)I"⟩) (owner := "DishLift$Dish") (C := "DishLift$Soup") (rest := rest) [.int p1, .int p2, .int p3] hX cx hw hl (mX5_weightBehind l (XI D cs wi) hX D d a p1 p2 p3 v hv) (va_cwO 3 hts (lw_O hlink q854 q853 q862 q863 q90 q864) rfl rfl rfl q866 ⟨by decide, by decide, by decide +kernel⟩ ⟨Nat.le_trans (Nat.le_of_ble_eq_true rfl) hR.1, Nat.le_trans (Nat.le_of_ble_eq_true rfl) hR.2⟩) (dish_recv hXs hK hw hm rfl) rfl rfl hWr hdg hf (fun r u H1 locs1 hp hw => ?_)
    subst hp
    exact W.widen (Nat.le_refl _) (Nat.le_refl _) (kk H1 locs1 hw)
  · have hv : fX3_weightBehind p1 = some v := hv
    refine x_UI0 (n := 3) (x := ⟨"DishLift$Dish", "weightBehind", "(IIZ)I"⟩) (owner := "DishLift$Dish") (C := "DishLift$Roast") (rest := rest) [.int p1, .int p2, .int p3] hX cx hw hl (mX3_weightBehind l (XI D cs wi) hX D d a p1 p2 p3 v hv) (va_cwU 3 hts (lw_U hlink q854 q861 q853 q88 q866) rfl rfl rfl rfl ⟨by decide, by decide, by decide +kernel⟩ ⟨Nat.le_trans (Nat.le_of_ble_eq_true rfl) hR.1, Nat.le_trans (Nat.le_of_ble_eq_true rfl) hR.2⟩) (dish_recv hXs hK hw hm rfl) rfl rfl hWr hdg hf (fun r u H1 locs1 hp hw => ?_)
    subst hp
    exact W.widen (Nat.le_refl _) (Nat.le_refl _) (kk H1 locs1 hw)
  · have hv : fX3_weightBehind p1 = some v := hv
    refine x_UI0 (n := 3) (x := ⟨"DishLift$Dish", "weightBehind", "(IIZ)I"⟩) (owner := "DishLift$Dish") (C := "DishLift$Cold") (rest := rest) [.int p1, .int p2, .int p3] hX cx hw hl (mX3_weightBehind l (XI D cs wi) hX D d a p1 p2 p3 v hv) (va_cwU 3 hts (lw_U hlink q854 q855 q853 q88 q866) rfl rfl rfl rfl ⟨by decide, by decide, by decide +kernel⟩ ⟨Nat.le_trans (Nat.le_of_ble_eq_true rfl) hR.1, Nat.le_trans (Nat.le_of_ble_eq_true rfl) hR.2⟩) (dish_recv hXs hK hw hm rfl) rfl rfl hWr hdg hf (fun r u H1 locs1 hp hw => ?_)
    subst hp
    exact W.widen (Nat.le_refl _) (Nat.le_refl _) (kk H1 locs1 hw)
  · have hv : fX8_weightBehind p1 p2 = some v := hv
    refine x_UI0 (n := 3) (x := ⟨"DishLift$Dish", "weightBehind", "(IIZ)I"⟩) (owner := "DishLift$Dish") (C := "DishLift$Ice") (rest := rest) [.int p1, .int p2, .int p3] hX cx hw hl (mX8_weightBehind l (XI D cs wi) hX D d a p1 p2 p3 v hv) (va_cwO 3 hts (lw_O hlink q854 q853 q857 q858 q93 q859) rfl rfl rfl q866 ⟨by decide, by decide, by decide +kernel⟩ ⟨Nat.le_trans (Nat.le_of_ble_eq_true rfl) hR.1, Nat.le_trans (Nat.le_of_ble_eq_true rfl) hR.2⟩) (dish_recv hXs hK hw hm rfl) rfl rfl hWr hdg hf (fun r u H1 locs1 hp hw => ?_)
    subst hp
    exact W.widen (Nat.le_refl _) (Nat.le_refl _) (kk H1 locs1 hw)
def fdish_isGood (dk : Nat → Option Nat) (a : Nat) (p1 : Int32) : Option Int32 := (dk a).bind fun k => if k = 0 then fX4_isGood p1 else if k = 1 then fX4_isGood p1 else if k = 2 then fX4_isGood p1 else if k = 3 then fX7_isGood p1 else fX7_isGood p1
theorem x_isGood {a idx : Nat} {p1 v : Int32} (him : ImF d wi ln lf dk dn) (hv : fdish_isGood dk a p1 = some v) (cx : Cx p s m args meth c (XI D cs wi) D d A own cc nL ret nm) (hw : Wd D A s ws H locs) (hl : ls.size = nL) (hlink : Cond.methodLink own idx ⟨"DishLift$Dish", "isGood", "(I)Z"⟩ ∈ lw_all) (hR : 1 ≤ R.frames ∧ 40 ≤ R.locals) (hWr : (rest.map fun v => v.category).sum ≤ 8) (hf : cells ≤ R.cells ∧ slots ≤ R.slots) (hdg : decode cc pc = .ok (.invokevirtual idx, 3))
    (kk : ∀ (H1 : Heap) (locs1 : List Loc), Wd D A s ws H1 locs1 → W p l e R s m args below meth c H1 locs1 cells slots Q (F0 m (pc + 3) ls (.int v :: rest))) : W p l e R s m args below meth c H locs cells slots Q (F0 m pc ls (.int p1 :: .ref a :: rest)) := by
  have hX := XI.ok (D := D) (cs := cs) (wi := wi)
  obtain ⟨k, hk, hv⟩ := op_e hv
  obtain ⟨hk5, hm⟩ := him.2 a k hk
  have cx' := cx
  obtain ⟨hx, hb, hr, hlk, hml, hown, hts, hK, hA, hXs, hnm⟩ := cx'
  have h5 : k = 0 ∨ k = 1 ∨ k = 2 ∨ k = 3 ∨ k = 4 := by omega
  rcases h5 with rfl | rfl | rfl | rfl | rfl
  · have hv : fX4_isGood p1 = some v := hv
    refine x_UI0 (n := 1) (x := ⟨"DishLift$Dish", "isGood", "(I)Z"⟩) (owner := "DishLift$Dish") (C := "DishLift$Hot") (rest := rest) [.int p1] hX cx hw hl (mX4_isGood l (XI D cs wi) hX D d a p1 v hv) (va_cwA 1 hts (lw_U hlink q909 q913 q914 q89 q915) rfl rfl rfl (Tb.decl q908 hXs.1) ⟨by decide, by decide, by decide +kernel⟩ ⟨Nat.le_trans (Nat.le_of_ble_eq_true rfl) hR.1, Nat.le_trans (Nat.le_of_ble_eq_true rfl) hR.2⟩) (dish_recv hXs hK hw hm rfl) rfl rfl hWr hdg hf (fun r u H1 locs1 hp hw => ?_)
    subst hp
    exact W.widen (Nat.le_refl _) (Nat.le_refl _) (kk H1 locs1 hw)
  · have hv : fX4_isGood p1 = some v := hv
    refine x_UI0 (n := 1) (x := ⟨"DishLift$Dish", "isGood", "(I)Z"⟩) (owner := "DishLift$Dish") (C := "DishLift$Soup") (rest := rest) [.int p1] hX cx hw hl (mX4_isGood l (XI D cs wi) hX D d a p1 v hv) (va_cwA 1 hts (lw_U hlink q909 q918 q914 q89 q915) rfl rfl rfl (Tb.decl q908 hXs.1) ⟨by decide, by decide, by decide +kernel⟩ ⟨Nat.le_trans (Nat.le_of_ble_eq_true rfl) hR.1, Nat.le_trans (Nat.le_of_ble_eq_true rfl) hR.2⟩) (dish_recv hXs hK hw hm rfl) rfl rfl hWr hdg hf (fun r u H1 locs1 hp hw => ?_)
    subst hp
    exact W.widen (Nat.le_refl _) (Nat.le_refl _) (kk H1 locs1 hw)
  · have hv : fX4_isGood p1 = some v := hv
    refine x_UI0 (n := 1) (x := ⟨"DishLift$Dish", "isGood", "(I)Z"⟩) (owner := "DishLift$Dish") (C := "DishLift$Roast") (rest := rest) [.int p1] hX cx hw hl (mX4_isGood l (XI D cs wi) hX D d a p1 v hv) (va_cwA 1 hts (lw_U hlink q909 q917 q914 q89 q915) rfl rfl rfl (Tb.decl q908 hXs.1) ⟨by decide, by decide, by decide +kernel⟩ ⟨Nat.le_trans (Nat.le_of_ble_eq_true rfl) hR.1, Nat.le_trans (Nat.le_of_ble_eq_true rfl) hR.2⟩) (dish_recv hXs hK hw hm rfl) rfl rfl hWr hdg hf (fun r u H1 locs1 hp hw => ?_)
    subst hp
    exact W.widen (Nat.le_refl _) (Nat.le_refl _) (kk H1 locs1 hw)
  · have hv : fX7_isGood p1 = some v := hv
    refine x_UI0 (n := 1) (x := ⟨"DishLift$Dish", "isGood", "(I)Z"⟩) (owner := "DishLift$Dish") (C := "DishLift$Cold") (rest := rest) [.int p1] hX cx hw hl (mX7_isGood l (XI D cs wi) hX D d a p1 v hv) (va_cwA 1 hts (lw_U hlink q909 q910 q911 q92 q912) rfl rfl rfl (Tb.decl q908 hXs.1) ⟨by decide, by decide, by decide +kernel⟩ ⟨Nat.le_trans (Nat.le_of_ble_eq_true rfl) hR.1, Nat.le_trans (Nat.le_of_ble_eq_true rfl) hR.2⟩) (dish_recv hXs hK hw hm rfl) rfl rfl hWr hdg hf (fun r u H1 locs1 hp hw => ?_)
    subst hp
    exact W.widen (Nat.le_refl _) (Nat.le_refl _) (kk H1 locs1 hw)
  · have hv : fX7_isGood p1 = some v := hv
    refine x_UI0 (n := 1) (x := ⟨"DishLift$Dish", "isGood", "(I)Z"⟩) (owner := "DishLift$Dish") (C := "DishLift$Ice") (rest := rest) [.int p1] hX cx hw hl (mX7_isGood l (XI D cs wi) hX D d a p1 v hv) (va_cwA 1 hts (lw_U hlink q909 q916 q911 q92 q912) rfl rfl rfl (Tb.decl q908 hXs.1) ⟨by decide, by decide, by decide +kernel⟩ ⟨Nat.le_trans (Nat.le_of_ble_eq_true rfl) hR.1, Nat.le_trans (Nat.le_of_ble_eq_true rfl) hR.2⟩) (dish_recv hXs hK hw hm rfl) rfl rfl hWr hdg hf (fun r u H1 locs1 hp hw => ?_)
    subst hp
    exact W.widen (Nat.le_refl _) (Nat.le_refl _) (kk H1 locs1 hw)
def fdish_kind (dk : Nat → Option Nat) (a : Nat)  : Option Int32 := (dk a).bind fun k => if k = 0 then fX4_kind  else if k = 1 then fX5_kind  else if k = 2 then fX6_kind  else if k = 3 then fX7_kind  else fX8_kind 
theorem x_kind {a idx : Nat} { v : Int32} (him : ImF d wi ln lf dk dn) (hv : fdish_kind dk a  = some v) (cx : Cx p s m args meth c (XI D cs wi) D d A own cc nL ret nm) (hw : Wd D A s ws H locs) (hl : ls.size = nL) (hlink : Cond.methodLink own idx ⟨"DishLift$Dish", "kind", "()I"⟩ ∈ lw_all) (hR : 1 ≤ R.frames ∧ 40 ≤ R.locals) (hWr : (rest.map fun v => v.category).sum ≤ 8) (hf : cells ≤ R.cells ∧ slots ≤ R.slots) (hdg : decode cc pc = .ok (.invokevirtual idx, 3))
    (kk : ∀ (H1 : Heap) (locs1 : List Loc), Wd D A s ws H1 locs1 → W p l e R s m args below meth c H1 locs1 cells slots Q (F0 m (pc + 3) ls (.int v :: rest))) : W p l e R s m args below meth c H locs cells slots Q (F0 m pc ls (.ref a :: rest)) := by
  have hX := XI.ok (D := D) (cs := cs) (wi := wi)
  obtain ⟨k, hk, hv⟩ := op_e hv
  obtain ⟨hk5, hm⟩ := him.2 a k hk
  have cx' := cx
  obtain ⟨hx, hb, hr, hlk, hml, hown, hts, hK, hA, hXs, hnm⟩ := cx'
  have h5 : k = 0 ∨ k = 1 ∨ k = 2 ∨ k = 3 ∨ k = 4 := by omega
  rcases h5 with rfl | rfl | rfl | rfl | rfl
  · have hv : fX4_kind  = some v := hv
    refine x_UI0 (n := 0) (x := ⟨"DishLift$Dish", "kind", "()I"⟩) (owner := "DishLift$Dish") (C := "DishLift$Hot") (rest := rest) [] hX cx hw hl (mX4_kind l (XI D cs wi) hX D d a  v hv) (va_cwA 0 hts (lw_U hlink q1101 q1105 q1106 q89 q1107) rfl rfl rfl (Tb.decl q1100 hXs.1) ⟨by decide, by decide, by decide +kernel⟩ ⟨Nat.le_trans (Nat.le_of_ble_eq_true rfl) hR.1, Nat.le_trans (Nat.le_of_ble_eq_true rfl) hR.2⟩) (dish_recv hXs hK hw hm rfl) rfl rfl hWr hdg hf (fun r u H1 locs1 hp hw => ?_)
    subst hp
    exact W.widen (Nat.le_refl _) (Nat.le_refl _) (kk H1 locs1 hw)
  · have hv : fX5_kind  = some v := hv
    refine x_UI0 (n := 0) (x := ⟨"DishLift$Dish", "kind", "()I"⟩) (owner := "DishLift$Dish") (C := "DishLift$Soup") (rest := rest) [] hX cx hw hl (mX5_kind l (XI D cs wi) hX D d a  v hv) (va_cwA 0 hts (lw_U hlink q1101 q1114 q1115 q90 q1116) rfl rfl rfl (Tb.decl q1100 hXs.1) ⟨by decide, by decide, by decide +kernel⟩ ⟨Nat.le_trans (Nat.le_of_ble_eq_true rfl) hR.1, Nat.le_trans (Nat.le_of_ble_eq_true rfl) hR.2⟩) (dish_recv hXs hK hw hm rfl) rfl rfl hWr hdg hf (fun r u H1 locs1 hp hw => ?_)
    subst hp
    exact W.widen (Nat.le_refl _) (Nat.le_refl _) (kk H1 locs1 hw)
  · have hv : fX6_kind  = some v := hv
    refine x_UI0 (n := 0) (x := ⟨"DishLift$Dish", "kind", "()I"⟩) (owner := "DishLift$Dish") (C := "DishLift$Roast") (rest := rest) [] hX cx hw hl (mX6_kind l (XI D cs wi) hX D d a  v hv) (va_cwA 0 hts (lw_U hlink q1101 q1111 q1112 q91 q1113) rfl rfl rfl (Tb.decl q1100 hXs.1) ⟨by decide, by decide, by decide +kernel⟩ ⟨Nat.le_trans (Nat.le_of_ble_eq_true rfl) hR.1, Nat.le_trans (Nat.le_of_ble_eq_true rfl) hR.2⟩) (dish_recv hXs hK hw hm rfl) rfl rfl hWr hdg hf (fun r u H1 locs1 hp hw => ?_)
    subst hp
    exact W.widen (Nat.le_refl _) (Nat.le_refl _) (kk H1 locs1 hw)
  · have hv : fX7_kind  = some v := hv
    refine x_UI0 (n := 0) (x := ⟨"DishLift$Dish", "kind", "()I"⟩) (owner := "DishLift$Dish") (C := "DishLift$Cold") (rest := rest) [] hX cx hw hl (mX7_kind l (XI D cs wi) hX D d a  v hv) (va_cwA 0 hts (lw_U hlink q1101 q1102 q1103 q92 q1104) rfl rfl rfl (Tb.decl q1100 hXs.1) ⟨by decide, by decide, by decide +kernel⟩ ⟨Nat.le_trans (Nat.le_of_ble_eq_true rfl) hR.1, Nat.le_trans (Nat.le_of_ble_eq_true rfl) hR.2⟩) (dish_recv hXs hK hw hm rfl) rfl rfl hWr hdg hf (fun r u H1 locs1 hp hw => ?_)
    subst hp
    exact W.widen (Nat.le_refl _) (Nat.le_refl _) (kk H1 locs1 hw)
  · have hv : fX8_kind  = some v := hv
    refine x_UI0 (n := 0) (x := ⟨"DishLift$Dish", "kind", "()I"⟩) (owner := "DishLift$Dish") (C := "DishLift$Ice") (rest := rest) [] hX cx hw hl (mX8_kind l (XI D cs wi) hX D d a  v hv) (va_cwA 0 hts (lw_U hlink q1101 q1108 q1109 q93 q1110) rfl rfl rfl (Tb.decl q1100 hXs.1) ⟨by decide, by decide, by decide +kernel⟩ ⟨Nat.le_trans (Nat.le_of_ble_eq_true rfl) hR.1, Nat.le_trans (Nat.le_of_ble_eq_true rfl) hR.2⟩) (dish_recv hXs hK hw hm rfl) rfl rfl hWr hdg hf (fun r u H1 locs1 hp hw => ?_)
    subst hp
    exact W.widen (Nat.le_refl _) (Nat.le_refl _) (kk H1 locs1 hw)
def fdish_number (dk : Nat → Option Nat) (dn : Nat → Int32) (a : Nat) : Option Int32 := (dk a).bind fun _ => some (dn a)
theorem x_number {a idx : Nat} { v : Int32} (him : ImF d wi ln lf dk dn) (hv : fdish_number dk dn a  = some v) (cx : Cx p s m args meth c (XI D cs wi) D d A own cc nL ret nm) (hw : Wd D A s ws H locs) (hl : ls.size = nL) (hlink : Cond.methodLink own idx ⟨"DishLift$Dish", "number", "()I"⟩ ∈ lw_all) (hR : 1 ≤ R.frames ∧ 40 ≤ R.locals) (hWr : (rest.map fun v => v.category).sum ≤ 8) (hf : cells ≤ R.cells ∧ slots ≤ R.slots) (hdg : decode cc pc = .ok (.invokevirtual idx, 3))
    (kk : ∀ (H1 : Heap) (locs1 : List Loc), Wd D A s ws H1 locs1 → W p l e R s m args below meth c H1 locs1 cells slots Q (F0 m (pc + 3) ls (.int v :: rest))) : W p l e R s m args below meth c H locs cells slots Q (F0 m pc ls (.ref a :: rest)) := by
  have hX := XI.ok (D := D) (cs := cs) (wi := wi)
  obtain ⟨k, hk, hv⟩ := op_e hv
  obtain ⟨hk5, hm⟩ := him.2 a k hk
  have cx' := cx
  obtain ⟨hx, hb, hr, hlk, hml, hown, hts, hK, hA, hXs, hnm⟩ := cx'
  have h5 : k = 0 ∨ k = 1 ∨ k = 2 ∨ k = 3 ∨ k = 4 := by omega
  rcases h5 with rfl | rfl | rfl | rfl | rfl
  · have hv : v = dn a := (Option.some.inj hv).symm; subst hv
    refine x_UI0 (n := 0) (x := ⟨"DishLift$Dish", "number", "()I"⟩) (owner := "DishLift$Dish") (C := "DishLift$Hot") (rest := rest) [] hX cx hw hl (mX3_number l D d cs wi ln lf dk dn him a 0 hk) (va_cwU 0 hts (lw_U hlink q1137 q1139 q1136 q88 q1143) rfl rfl rfl rfl ⟨by decide, by decide, by decide +kernel⟩ ⟨Nat.le_trans (Nat.le_of_ble_eq_true rfl) hR.1, Nat.le_trans (Nat.le_of_ble_eq_true rfl) hR.2⟩) (dish_recv hXs hK hw hm rfl) rfl rfl hWr hdg hf (fun r u H1 locs1 hp hw => ?_)
    subst hp
    exact W.widen (Nat.le_refl _) (Nat.le_refl _) (kk H1 locs1 hw)
  · have hv : v = dn a := (Option.some.inj hv).symm; subst hv
    refine x_UI0 (n := 0) (x := ⟨"DishLift$Dish", "number", "()I"⟩) (owner := "DishLift$Dish") (C := "DishLift$Soup") (rest := rest) [] hX cx hw hl (mX3_number l D d cs wi ln lf dk dn him a 1 hk) (va_cwU 0 hts (lw_U hlink q1137 q1142 q1136 q88 q1143) rfl rfl rfl rfl ⟨by decide, by decide, by decide +kernel⟩ ⟨Nat.le_trans (Nat.le_of_ble_eq_true rfl) hR.1, Nat.le_trans (Nat.le_of_ble_eq_true rfl) hR.2⟩) (dish_recv hXs hK hw hm rfl) rfl rfl hWr hdg hf (fun r u H1 locs1 hp hw => ?_)
    subst hp
    exact W.widen (Nat.le_refl _) (Nat.le_refl _) (kk H1 locs1 hw)
  · have hv : v = dn a := (Option.some.inj hv).symm; subst hv
    refine x_UI0 (n := 0) (x := ⟨"DishLift$Dish", "number", "()I"⟩) (owner := "DishLift$Dish") (C := "DishLift$Roast") (rest := rest) [] hX cx hw hl (mX3_number l D d cs wi ln lf dk dn him a 2 hk) (va_cwU 0 hts (lw_U hlink q1137 q1141 q1136 q88 q1143) rfl rfl rfl rfl ⟨by decide, by decide, by decide +kernel⟩ ⟨Nat.le_trans (Nat.le_of_ble_eq_true rfl) hR.1, Nat.le_trans (Nat.le_of_ble_eq_true rfl) hR.2⟩) (dish_recv hXs hK hw hm rfl) rfl rfl hWr hdg hf (fun r u H1 locs1 hp hw => ?_)
    subst hp
    exact W.widen (Nat.le_refl _) (Nat.le_refl _) (kk H1 locs1 hw)
  · have hv : v = dn a := (Option.some.inj hv).symm; subst hv
    refine x_UI0 (n := 0) (x := ⟨"DishLift$Dish", "number", "()I"⟩) (owner := "DishLift$Dish") (C := "DishLift$Cold") (rest := rest) [] hX cx hw hl (mX3_number l D d cs wi ln lf dk dn him a 3 hk) (va_cwU 0 hts (lw_U hlink q1137 q1138 q1136 q88 q1143) rfl rfl rfl rfl ⟨by decide, by decide, by decide +kernel⟩ ⟨Nat.le_trans (Nat.le_of_ble_eq_true rfl) hR.1, Nat.le_trans (Nat.le_of_ble_eq_true rfl) hR.2⟩) (dish_recv hXs hK hw hm rfl) rfl rfl hWr hdg hf (fun r u H1 locs1 hp hw => ?_)
    subst hp
    exact W.widen (Nat.le_refl _) (Nat.le_refl _) (kk H1 locs1 hw)
  · have hv : v = dn a := (Option.some.inj hv).symm; subst hv
    refine x_UI0 (n := 0) (x := ⟨"DishLift$Dish", "number", "()I"⟩) (owner := "DishLift$Dish") (C := "DishLift$Ice") (rest := rest) [] hX cx hw hl (mX3_number l D d cs wi ln lf dk dn him a 4 hk) (va_cwU 0 hts (lw_U hlink q1137 q1140 q1136 q88 q1143) rfl rfl rfl rfl ⟨by decide, by decide, by decide +kernel⟩ ⟨Nat.le_trans (Nat.le_of_ble_eq_true rfl) hR.1, Nat.le_trans (Nat.le_of_ble_eq_true rfl) hR.2⟩) (dish_recv hXs hK hw hm rfl) rfl rfl hWr hdg hf (fun r u H1 locs1 hp hw => ?_)
    subst hp
    exact W.widen (Nat.le_refl _) (Nat.le_refl _) (kk H1 locs1 hw)
end XD
