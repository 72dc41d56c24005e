/-! THE LAW'S WALK: its loop -/
set_option maxRecDepth 100000
theorem mulS (a i : Nat) : a * (i + 1) = a * i + a := Nat.mul_succ a i
theorem lwsub6 {L : Nat} (hL : L ≤ 384) : (Int32.ofNat L - 6).toInt = (L : Int) - 6 := by
  have h : ∀ L : Nat, L < 385 → (Int32.ofNat L - 6).toInt = (L : Int) - 6 := by decide +kernel
  exact h L (by omega)
theorem lw_head {L i : Nat} (hL : L ≤ 384) (hi : i ≤ 64) : Int32.ofNat L - 6 < Int32.ofNat (6 * i) ↔ L < 6 * i + 6 := by
  rw [Int32.lt_iff_toInt_lt, lwsub6 hL, show (Int32.ofNat (6 * i)).toInt = ((6 * i : Nat) : Int) from Int32.toInt_ofNat_of_lt (by omega)]
  omega
theorem sc_in0 {i L : Nat} (hi : 6 * i + 6 ≤ L) (hL : L ≤ 384) : vp_in (Int32.ofNat (6 * i)) L := by
  have h := sc_in hi hL (k := 0) (by omega)
  rwa [oadd] at h
section LWL
variable {p : Program} {l : Launch} {e : Env} {s : State} {m : MethodId} {below : List Frame} {meth : Method} {c : Code} {D : va_G} {d : Nat → ClassId} {cs : Nat → Nat} {w0 : va_W} {b L : Nat} {xs : Nat → Int32} {sa ha ta ad : Nat → Nat} {nm : String} {Q9 : State → Prop}
set_option maxHeartbeats 4000000 in
theorem lw_loop (lc : LC l p s m #[Value.ref b] meth c D d (fun q : Nat => s.heap.size ≤ q) cs w0 b L xs nm) (K : ∀ (H : Heap) (locs : List Loc) (ls : Array Slot) (cells slots : Nat), (∀ q ∈ locs, s.heap.size ≤ q.base) → cells ≤ 603072 → slots ≤ 7262314 → W p l e room_1 s m #[Value.ref b] below meth c H locs cells slots Q9 (F0 m 1295 ls [.int 1])) : ∀ (j i : Nat) (ws wm : va_W) (H : Heap) (locs : List Loc) (ls : Array Slot) (cells slots : Nat), i + j ≤ 64 → L ≤ 6 * i + 6 * j → cells ≤ 100 + 8000 * i → slots ≤ 3000 + 100000 * i → RM d sa ha ta ad w0 ws wm → Wd D (fun q : Nat => s.heap.size ≤ q) s (ws ++ wm) H locs → lv_has ls 4 [(3, .int (Int32.ofNat (6 * i))), (2, .ref (ad 0)), (1, .ref (sa 0)), (0, .ref b)] →
    W p l e room_1 s m #[Value.ref b] below meth c H locs cells slots Q9 (F0 m 18 ls []) := by
  have lc2 := lc
  obtain ⟨hfl, hs, he, h14, cx, hXs, hbl, hbA, hL⟩ := lc2
  have cx' := cx
  obtain ⟨hx, hb, hr, hlk, hml, hown, hts, hK, hA, hXX, hnm⟩ := cx'
  intro j
  induction j with
  | zero =>
    intro i ws wm H locs ls cells slots hij hLi hc hsl hR hw hl
    refine lv_iload_n hx hb dL_law_18 rfl (lv_at hl 0 rfl) ?_
    refine lv_aload_n hx hb dL_law_19 rfl (lv_at hl 3 rfl) ?_
    refine va_slen hx hb hXs hbl hbA hw.2.2 dL_law_20 ?_
    refine lv_bipush (v := 6) hx hb dL_law_21 (by decide) ?_
    refine lv_isub hx hb dL_law_23 ?_
    refine lv_icmp_gt (tgt := 1294) hx hb dL_law_24 (by decide) (fun c24 => ?_) (fun c24 => ?_)
    · refine lv_iconst (v := 1) hx hb dL_law_1294 (by decide) ?_
      exact K H locs ls cells slots (fun q hq => hw.2.2.2.2 q hq) (by omega) (by omega)
    · exact absurd ((lw_head hL (by omega)).mpr (by omega)) c24
  | succ j ih =>
    intro i ws wm H locs ls cells slots hij hLi hc hsl hR hw hl
    have hk : ∀ (ws2 wm2 : va_W) (H1 : Heap) (locs1 : List Loc) (c1 s1 : Nat), RM d sa ha ta ad w0 ws2 wm2 → c1 ≤ cells + 8000 → s1 ≤ slots + 100000 → Wd D (fun q : Nat => s.heap.size ≤ q) s (ws2 ++ wm2) H1 locs1 → W p l e room_1 s m #[Value.ref b] below meth c H1 locs1 c1 s1 Q9 (F0 m 1288 ls []) := by
      intro ws2 wm2 H1 locs1 c1 s1 hR hc1 hs1 hw
      refine lv_iinc (v := Int32.ofNat (6 * (i + 1))) (lv' := [(3, .int (Int32.ofNat (6 * (i + 1)))), (2, .ref (ad 0)), (1, .ref (sa 0)), (0, .ref b)]) hx hb dL_law_1288 hl (k := 0) rfl (by rw [show 6 * (i + 1) = 6 * i + 6 from rfl]; exact oadd _ 6) (by decide) rfl (fun ls hl => ?_)
      refine lv_goto (tgt := 18) hx hb dL_law_1291 (by decide) ?_
      have g1 : i + 1 + j ≤ 64 := by omega
      have g2 : L ≤ 6 * (i + 1) + 6 * j := by omega
      have g3 : c1 ≤ 100 + 8000 * (i + 1) := by rw [mulS]; omega
      have g4 : s1 ≤ 3000 + 100000 * (i + 1) := by rw [mulS, ← Nat.add_assoc]; exact Nat.le_trans hs1 (Nat.add_le_add_right hsl _)
      exact ih (i + 1) ws2 wm2 H1 locs1 ls c1 s1 g1 g2 g3 g4 hR hw hl
    refine lv_iload_n hx hb dL_law_18 rfl (lv_at hl 0 rfl) ?_
    refine lv_aload_n hx hb dL_law_19 rfl (lv_at hl 3 rfl) ?_
    refine va_slen hx hb hXs hbl hbA hw.2.2 dL_law_20 ?_
    refine lv_bipush (v := 6) hx hb dL_law_21 (by decide) ?_
    refine lv_isub hx hb dL_law_23 ?_
    refine lv_icmp_gt (tgt := 1294) hx hb dL_law_24 (by decide) (fun c24 => ?_) (fun c24 => ?_)
    · refine lv_iconst (v := 1) hx hb dL_law_1294 (by decide) ?_
      exact K H locs ls cells slots (fun q hq => hw.2.2.2.2 q hq) (by omega) (by omega)
    · have hi : 6 * i + 6 ≤ L := by
        rcases Nat.lt_or_ge L (6 * i + 6) with h | h
        · exact absurd ((lw_head hL (by omega)).mpr h) c24
        · exact h
      refine lv_aload_n hx hb dL_law_27 rfl (lv_at hl 3 rfl) ?_
      refine lv_iload_n hx hb dL_law_28 rfl (lv_at hl 0 rfl) ?_
      refine va_sld hx hb hXs hbl hbA hw.2.2 (sc_in0 hi hL) dL_law_29 ?_
      refine lv_bipush (v := 63) hx hb dL_law_30 (by decide) ?_
      refine lv_iand hx hb dL_law_32 ?_
      generalize xs (Int32.ofNat (6 * i)).toNatClampNeg &&& 63 = x
      by_cases n0 : x.toInt < 0
      · exact lv_tableOut (tgt := 1288) hx hb dL_law_33 (Or.inl n0) (by decide) (hk ws wm H locs _ _ hR (by omega) (by omega) hw)
      by_cases n1 : 36 < x.toInt
      · exact lv_tableOut (tgt := 1288) hx hb dL_law_33 (Or.inr n1) (by decide) (hk ws wm H locs _ _ hR (by omega) (by omega) hw)
      have hcs : x.toInt = 0 ∨ x.toInt = 1 ∨ x.toInt = 2 ∨ x.toInt = 3 ∨ x.toInt = 4 ∨ x.toInt = 5 ∨ x.toInt = 6 ∨ x.toInt = 7 ∨ x.toInt = 8 ∨ x.toInt = 9 ∨ x.toInt = 10 ∨ x.toInt = 11 ∨ x.toInt = 12 ∨ x.toInt = 13 ∨ x.toInt = 14 ∨ x.toInt = 15 ∨ x.toInt = 16 ∨ x.toInt = 17 ∨ x.toInt = 18 ∨ x.toInt = 19 ∨ x.toInt = 20 ∨ x.toInt = 21 ∨ x.toInt = 22 ∨ x.toInt = 23 ∨ x.toInt = 24 ∨ x.toInt = 25 ∨ x.toInt = 26 ∨ x.toInt = 27 ∨ x.toInt = 28 ∨ x.toInt = 29 ∨ x.toInt = 30 ∨ x.toInt = 31 ∨ x.toInt = 32 ∨ x.toInt = 33 ∨ x.toInt = 34 ∨ x.toInt = 35 ∨ x.toInt = 36 := by omega
      rcases hcs with h | h | h | h | h | h | h | h | h | h | h | h | h | h | h | h | h | h | h | h | h | h | h | h | h | h | h | h | h | h | h | h | h | h | h | h | h
      · exact lv_tableIn (off := 163) (tgt := 196) hx hb dL_law_33 n0 n1 (by rw [h]; rfl) (by decide) (lw_c_row lc hi hR (by omega) (by omega) hw hl hk)
      · exact lv_tableIn (off := 206) (tgt := 239) hx hb dL_law_33 n0 n1 (by rw [h]; rfl) (by decide) (lw_c_set lc hi hR (by omega) (by omega) hw hl hk)
      · exact lv_tableIn (off := 249) (tgt := 282) hx hb dL_law_33 n0 n1 (by rw [h]; rfl) (by decide) (lw_c_copy lc hi hR (by omega) (by omega) hw hl hk)
      · exact lv_tableIn (off := 312) (tgt := 345) hx hb dL_law_33 n0 n1 (by rw [h]; rfl) (by decide) (lw_c_drop lc hi hR (by omega) (by omega) hw hl hk)
      · exact lv_tableIn (off := 335) (tgt := 368) hx hb dL_law_33 n0 n1 (by rw [h]; rfl) (by decide) (lw_c_feed lc hi hR (by omega) (by omega) hw hl hk)
      · exact lv_tableIn (off := 358) (tgt := 391) hx hb dL_law_33 n0 n1 (by rw [h]; rfl) (by decide) (lw_c_house lc hi hR (by omega) (by omega) hw hl hk)
      · exact lv_tableIn (off := 371) (tgt := 404) hx hb dL_law_33 n0 n1 (by rw [h]; rfl) (by decide) (lw_c_fault lc hi hR (by omega) (by omega) hw hl hk)
      · exact lv_tableIn (off := 384) (tgt := 417) hx hb dL_law_33 n0 n1 (by rw [h]; rfl) (by decide) (lw_c_undo lc hi hR (by omega) (by omega) hw hl hk)
      · exact lv_tableIn (off := 397) (tgt := 430) hx hb dL_law_33 n0 n1 (by rw [h]; rfl) (by decide) (lw_c_minutes lc hi hR (by omega) (by omega) hw hl hk)
      · exact lv_tableIn (off := 420) (tgt := 453) hx hb dL_law_33 n0 n1 (by rw [h]; rfl) (by decide) (lw_c_pull lc hi hR (by omega) (by omega) hw hl hk)
      · exact lv_tableIn (off := 443) (tgt := 476) hx hb dL_law_33 n0 n1 (by rw [h]; rfl) (by decide) (lw_c_rope lc hi hR (by omega) (by omega) hw hl hk)
      · exact lv_tableIn (off := 466) (tgt := 499) hx hb dL_law_33 n0 n1 (by rw [h]; rfl) (by decide) (lw_c_room lc hi hR (by omega) (by omega) hw hl hk)
      · exact lv_tableIn (off := 489) (tgt := 522) hx hb dL_law_33 n0 n1 (by rw [h]; rfl) (by decide) (lw_c_send lc hi hR (by omega) (by omega) hw hl hk)
      · exact lv_tableIn (off := 532) (tgt := 565) hx hb dL_law_33 n0 n1 (by rw [h]; rfl) (by decide) (lw_c_dish lc hi hR (by omega) (by omega) hw hl hk)
      · exact lv_tableIn (off := 565) (tgt := 598) hx hb dL_law_33 n0 n1 (by rw [h]; rfl) (by decide) (lw_c_car lc hi hR (by omega) (by omega) hw hl hk)
      · exact lv_tableIn (off := 588) (tgt := 621) hx hb dL_law_33 n0 n1 (by rw [h]; rfl) (by decide) (lw_c_ahead lc hi hR (by omega) (by omega) hw hl hk)
      · exact lv_tableIn (off := 631) (tgt := 664) hx hb dL_law_33 n0 n1 (by rw [h]; rfl) (by decide) (lw_c_later lc hi hR (by omega) (by omega) hw hl hk)
      · exact lv_tableIn (off := 654) (tgt := 687) hx hb dL_law_33 n0 n1 (by rw [h]; rfl) (by decide) (lw_c_when lc hi hR (by omega) (by omega) hw hl hk)
      · exact lv_tableIn (off := 677) (tgt := 710) hx hb dL_law_33 n0 n1 (by rw [h]; rfl) (by decide) (lw_c_done lc hi hR (by omega) (by omega) hw hl hk)
      · exact lv_tableIn (off := 690) (tgt := 723) hx hb dL_law_33 n0 n1 (by rw [h]; rfl) (by decide) (lw_c_fine lc hi hR (by omega) (by omega) hw hl hk)
      · exact lv_tableIn (off := 713) (tgt := 746) hx hb dL_law_33 n0 n1 (by rw [h]; rfl) (by decide) (lw_c_site lc hi hR (by omega) (by omega) hw hl hk)
      · exact lv_tableIn (off := 746) (tgt := 779) hx hb dL_law_33 n0 n1 (by rw [h]; rfl) (by decide) (lw_c_need lc hi hR (by omega) (by omega) hw hl hk)
      · exact lv_tableIn (off := 779) (tgt := 812) hx hb dL_law_33 n0 n1 (by rw [h]; rfl) (by decide) (lw_c_ranks lc hi hR (by omega) (by omega) hw hl hk)
      · exact lv_tableIn (off := 812) (tgt := 845) hx hb dL_law_33 n0 n1 (by rw [h]; rfl) (by decide) (lw_c_holds lc hi hR (by omega) (by omega) hw hl hk)
      · exact lv_tableIn (off := 835) (tgt := 868) hx hb dL_law_33 n0 n1 (by rw [h]; rfl) (by decide) (lw_c_share lc hi hR (by omega) (by omega) hw hl hk)
      · exact lv_tableIn (off := 868) (tgt := 901) hx hb dL_law_33 n0 n1 (by rw [h]; rfl) (by decide) (lw_c_byTurns lc hi hR (by omega) (by omega) hw hl hk)
      · exact lv_tableIn (off := 901) (tgt := 934) hx hb dL_law_33 n0 n1 (by rw [h]; rfl) (by decide) (lw_c_who lc hi hR (by omega) (by omega) hw hl hk)
      · exact lv_tableIn (off := 964) (tgt := 997) hx hb dL_law_33 n0 n1 (by rw [h]; rfl) (by decide) (lw_c_stuck lc hi hR (by omega) (by omega) hw hl hk)
      · exact lv_tableIn (off := 1018) (tgt := 1051) hx hb dL_law_33 n0 n1 (by rw [h]; rfl) (by decide) (lw_c_drawn lc hi hR (by omega) (by omega) hw hl hk)
      · exact lv_tableIn (off := 1061) (tgt := 1094) hx hb dL_law_33 n0 n1 (by rw [h]; rfl) (by decide) (lw_c_image lc hi hR (by omega) (by omega) hw hl hk)
      · exact lv_tableIn (off := 1084) (tgt := 1117) hx hb dL_law_33 n0 n1 (by rw [h]; rfl) (by decide) (lw_c_restore lc hi hR (by omega) (by omega) hw hl hk)
      · exact lv_tableIn (off := 1107) (tgt := 1140) hx hb dL_law_33 n0 n1 (by rw [h]; rfl) (by decide) (lw_c_kind lc hi hR (by omega) (by omega) hw hl hk)
      · exact lv_tableIn (off := 1130) (tgt := 1163) hx hb dL_law_33 n0 n1 (by rw [h]; rfl) (by decide) (lw_c_as lc hi hR (by omega) (by omega) hw hl hk)
      · exact lv_tableIn (off := 1163) (tgt := 1196) hx hb dL_law_33 n0 n1 (by rw [h]; rfl) (by decide) (lw_c_ask lc hi hR (by omega) (by omega) hw hl hk)
      · exact lv_tableIn (off := 1196) (tgt := 1229) hx hb dL_law_33 n0 n1 (by rw [h]; rfl) (by decide) (lw_c_trace lc hi hR (by omega) (by omega) hw hl hk)
      · exact lv_tableIn (off := 1219) (tgt := 1252) hx hb dL_law_33 n0 n1 (by rw [h]; rfl) (by decide) (lw_c_count lc hi hR (by omega) (by omega) hw hl hk)
      · exact lv_tableIn (off := 1242) (tgt := 1275) hx hb dL_law_33 n0 n1 (by rw [h]; rfl) (by decide) (lw_c_status lc hi hR (by omega) (by omega) hw hl hk)
end LWL
