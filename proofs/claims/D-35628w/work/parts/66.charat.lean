/-! ===== String.charAt ===== -/
set_option maxRecDepth 100000
set_option maxHeartbeats 4000000 in
set_option maxRecDepth 100000 in
theorem c_J15_checkIndexO (l : Launch) (Z : mm_G) {M : mm_M} {i n : Nat} {r : Option Nat} (hi : i < n) (hn : n < 2 ^ 31) : mm_C l Z yJ15_checkIndex (ws_ yJ15_checkIndex cJ15_checkIndex 3 (some .int)) { frames := 0, cells := 0, slots := 0, locals := 0 } [.int (nI i), .int (nI n), va_rf r] M (fun v M' => v = some (.int (nI i)) ∧ M' = M) mm_nx := by
  refine mm_ofW (cc := cJ15_checkIndex) (maxL := 3) (ret := (some .int)) (by decide) rfl (by simp [lg_sl, mm_cat_o, mm_cat_r, mm_cat_i, mm_cat_l, mm_cat_n]) ?_
  intro p e s m below meth c A ls hx hb hr hlk hml hown hmn hts htab hE hST hA hM hS hl
  replace hl : lv_has ls 3 [(0, .int (nI i)), (1, .int (nI n)), (2, va_rf r)] := by simpa [lv_args, mm_cat_o, mm_cat_r, mm_cat_i, mm_cat_l, mm_cat_n] using hl
  refine lv_iload_n hx hb dJ15_checkIndex_0 rfl (lv_at hl 0 rfl) ?_
  refine lv_if_lt (tgt := 9) hx hb dJ15_checkIndex_1 (by decide) (fun c_1 => ?_) (fun c_1 => ?_)
  · exact absurd c_1 (nI_pos (by omega))
  · skip
    refine lv_iload_n hx hb dJ15_checkIndex_4 rfl (lv_at hl 0 rfl) ?_
    refine lv_iload_n hx hb dJ15_checkIndex_5 rfl (lv_at hl 1 rfl) ?_
    refine lv_icmp_lt (tgt := 16) hx hb dJ15_checkIndex_6 (by decide) (fun c_2 => ?_) (fun c_2 => ?_)
    · skip
      refine lv_iload_n hx hb dJ15_checkIndex_16 rfl (lv_at hl 0 rfl) ?_
      exact mm_reti hx hb hr hlk hM hS ⟨rfl, rfl⟩ dJ15_checkIndex_17 (Nat.le_of_ble_eq_true rfl) (Nat.le_of_ble_eq_true rfl)
    · exact absurd ((nI_ltI (by omega) (by omega)).2 hi) c_2
set_option maxHeartbeats 4000000 in
set_option maxRecDepth 100000 in
theorem c_J13_checkIndex (l : Launch) (Z : mm_G) {M : mm_M} {i n : Nat} (hi : i < n) (hn : n < 2 ^ 31) : mm_C l Z yJ13_checkIndex (ws_ yJ13_checkIndex cJ13_checkIndex 2 none) { frames := 1, cells := 0, slots := 0, locals := 30 } [.int (nI i), .int (nI n)] M (fun v M' => v = none ∧ M' = M) mm_nx := by
  refine mm_ofW (cc := cJ13_checkIndex) (maxL := 2) (ret := none) (by decide) rfl (Nat.le_of_ble_eq_true rfl) ?_
  intro p e s m below meth c A ls hx hb hr hlk hml hown hmn hts htab hE hST hA hM hS hl
  replace hl : lv_has ls 2 [(0, .int (nI i)), (1, .int (nI n))] := hl
  obtain ⟨rz, hzz⟩ := mm_zq hST.2.2.2.1
  refine lv_iload_n hx hb dJ13_checkIndex_0 rfl (lv_at hl 0 rfl) ?_
  refine lv_iload_n hx hb dJ13_checkIndex_1 rfl (lv_at hl 1 rfl) ?_
  refine va_gets hx hb hzz hS hown (hts _ q1380) (fun _ h9 => h9) dJ13_checkIndex_2 ?_
  refine mm_callS (As := [.int (nI i), .int (nI n), va_rf rz]) (rest := []) ⟨hx, hb, hml, hown, hts⟩ hE hST hA (c_J15_checkIndexO l Z hi hn) (va_cwS 3 hts (lw_S q1645 q507 q69 q508) rfl rfl rfl (by decide +kernel) ⟨(Nat.le_of_ble_eq_true rfl), (Nat.le_of_ble_eq_true rfl)⟩) hM hS rfl hl.1 (Nat.le_of_ble_eq_true rfl) dJ13_checkIndex_5 rfl ⟨(Nat.le_of_ble_eq_true rfl), (Nat.le_of_ble_eq_true rfl)⟩ (fun _ _ _ _ _ _ h9 => h9.elim) (fun v_1 M_2 H locs hp_3 hM hS => ?_)
  obtain ⟨rfl, eM_2⟩ := hp_3
  rw [eM_2] at hM
  refine lv_pop hx hb dJ13_checkIndex_8 rfl ?_
  exact mm_retv hx hb hr hlk hM hS ⟨rfl, rfl⟩ dJ13_checkIndex_9 (Nat.le_of_ble_eq_true rfl) (Nat.le_of_ble_eq_true rfl)
theorem tb_ch {cs : List Nat} (h : tb_ok cs) (i : Nat) : (((tb_f cs i &&& 255).toUInt32 % 65536).toInt32 : Int32) = nI (cs.getD i 0) := by
  have hk : ∀ k : Nat, k < 128 → (((nI k &&& 255).toUInt32 % 65536).toInt32 : Int32) = nI k := by decide +kernel
  refine hk _ ?_
  by_cases hi : i < cs.length
  · rw [List.getD_eq_getElem?_getD, List.getElem?_eq_getElem hi]; exact h _ (List.getElem_mem hi)
  · rw [List.getD_eq_getElem?_getD, List.getElem?_eq_none (by omega)]; decide
set_option maxHeartbeats 4000000 in
set_option maxRecDepth 100000 in
theorem c_J16_charAt (l : Launch) (Z : mm_G) {M : mm_M} {sa sar : Nat} {ds : List Nat} (hS9 : ST Z M sa sar ds) {i : Nat} (hi : i < ds.length) : mm_C l Z yJ16_charAt (ws_ yJ16_charAt cJ16_charAt 2 (some .char)) { frames := 2, cells := 0, slots := 0, locals := 60 } [.ref sar, .int (nI i)] M (fun v M' => v = some (.int (nI (ds.getD i 0))) ∧ M' = M) mm_nx := by
  refine mm_ofW (cc := cJ16_charAt) (maxL := 2) (ret := (some .char)) (by decide) rfl (Nat.le_of_ble_eq_true rfl) ?_
  intro p e s m below meth c A ls hx hb hr hlk hml hown hmn hts htab hE hST hA hM hS hl
  replace hl : lv_has ls 2 [(0, .ref sar), (1, .int (nI i))] := hl
  obtain ⟨hh, hz, hs1, ha1, hl1, ho1⟩ := hS9
  refine lv_iload_n hx hb dJ16_charAt_0 rfl (lv_at hl 1 rfl) ?_
  refine lv_aload_n hx hb dJ16_charAt_1 rfl (lv_at hl 0 rfl) ?_
  refine mm_alen hx hb hE hM 1 ha1 rfl dJ16_charAt_2 ?_
  refine mm_callS (As := [.int (nI i), .int (nI ds.length)]) (rest := []) ⟨hx, hb, hml, hown, hts⟩ hE hST hA (c_J13_checkIndex l Z hi (by omega)) (va_cwS 2 hts (lw_S q1767 q1643 q67 q1644) rfl rfl rfl (by decide +kernel) ⟨(Nat.le_of_ble_eq_true rfl), (Nat.le_of_ble_eq_true rfl)⟩) hM hS rfl hl.1 (Nat.le_of_ble_eq_true rfl) dJ16_charAt_3 rfl ⟨(Nat.le_of_ble_eq_true rfl), (Nat.le_of_ble_eq_true rfl)⟩ (fun _ _ _ _ _ _ h9 => h9.elim) (fun v_1 M_2 H locs hp_3 hM hS => ?_)
  obtain ⟨rfl, eM_2⟩ := hp_3
  rw [eM_2] at hM
  refine lv_aload_n hx hb dJ16_charAt_6 rfl (lv_at hl 0 rfl) ?_
  refine lv_iload_n hx hb dJ16_charAt_7 rfl (lv_at hl 1 rfl) ?_
  refine mm_baldK (k := i) hx hb hE hM ha1 rfl hi (by omega) dJ16_charAt_8 ?_
  refine lv_sipush (v := 255) hx hb dJ16_charAt_9 (by decide) ?_
  refine lv_iand hx hb dJ16_charAt_12 ?_
  refine lv_i2c (v := ((((tb_f ds) i) &&& 255).toUInt32 % 65536).toInt32) hx hb dJ16_charAt_13 rfl ?_
  rw [show (((((tb_f ds) i) &&& 255).toUInt32 % 65536).toInt32 : Int32) = nI (ds.getD i 0) from tb_ch ho1 i]
  have hch : narrow .char (.int (nI (ds.getD i 0))) = .int (nI (ds.getD i 0)) := by
    have hk : ∀ k : Nat, k < 128 → narrow .char (.int (nI k)) = .int (nI k) := by decide +kernel
    refine hk _ ?_
    rw [List.getD_eq_getElem?_getD, List.getElem?_eq_getElem hi]
    exact ho1 _ (List.getElem_mem hi)
  exact mm_retz hx hb hr hch hlk hM hS ⟨rfl, rfl⟩ dJ16_charAt_14 (Nat.le_of_ble_eq_true rfl) (Nat.le_of_ble_eq_true rfl)
set_option maxHeartbeats 4000000 in
set_option maxRecDepth 100000 in
theorem c_J13_isLatin1 (l : Launch) (Z : mm_G) {M : mm_M} {sa sar : Nat} {ds : List Nat} (hS9 : ST Z M sa sar ds) : mm_C l Z yJ13_isLatin1 (ws_ yJ13_isLatin1 cJ13_isLatin1 1 (some .boolean)) { frames := 0, cells := 0, slots := 0, locals := 0 } [.ref sa] M (fun v M' => v = some (.int 1) ∧ M' = M) mm_nx := by
  refine mm_ofW (cc := cJ13_isLatin1) (maxL := 1) (ret := (some .boolean)) (by decide) rfl (Nat.le_of_ble_eq_true rfl) ?_
  intro p e s m below meth c A ls hx hb hr hlk hml hown hmn hts htab hE hST hA hM hS hl
  replace hl : lv_has ls 1 [(0, .ref sa)] := hl
  obtain ⟨hh, hz, hs1, ha1, hl1, ho1⟩ := hS9
  refine va_gets hx hb (hST.1 _ (List.mem_of_getElem? (i := 6) rfl)) hS hown (hts _ q792) (fun _ h9 => h9) dJ13_isLatin1_0 ?_
  refine lv_if_eq (tgt := 17) hx hb dJ13_isLatin1_3 (by decide) (fun h9 => absurd h9 (by decide)) (fun _ => ?_)
  refine lv_aload_n hx hb dJ13_isLatin1_6 rfl (lv_at hl 0 rfl) ?_
  refine va_get (D := Z.1) (ci := 47) (v := .int 0) (C := RJ13) (T := TJ13) (N := 4) hx hb hts in_J13 hown hE.1 (hM.at hs1) 0 rfl mm_cJ13 1 (by decide) (hts _ q1522) (fun _ h9 => h9) rfl dJ13_isLatin1_7 ?_
  refine lv_if_ne (tgt := 17) hx hb dJ13_isLatin1_10 (by decide) (fun c_1 => ?_) (fun c_1 => ?_)
  · skip
    exact absurd rfl c_1
  · skip
    refine lv_iconst (v := 1) hx hb dJ13_isLatin1_13 (by decide) ?_
    refine lv_goto (tgt := 18) hx hb dJ13_isLatin1_14 (by decide) ?_
    exact mm_retz hx hb hr rfl hlk hM hS ⟨rfl, rfl⟩ dJ13_isLatin1_18 (Nat.le_of_ble_eq_true rfl) (Nat.le_of_ble_eq_true rfl)
set_option maxHeartbeats 4000000 in
set_option maxRecDepth 100000 in
theorem c_J13_charAt (l : Launch) (Z : mm_G) {M : mm_M} {sa sar : Nat} {ds : List Nat} (hS9 : ST Z M sa sar ds) {i : Nat} (hi : i < ds.length) : mm_C l Z yJ13_charAt (ws_ yJ13_charAt cJ13_charAt 2 (some .char)) { frames := 3, cells := 0, slots := 0, locals := 100 } [.ref sa, .int (nI i)] M (fun v M' => v = some (.int (nI (ds.getD i 0))) ∧ M' = M) mm_nx := by
  refine mm_ofW (cc := cJ13_charAt) (maxL := 2) (ret := (some .char)) (by decide) rfl (Nat.le_of_ble_eq_true rfl) ?_
  intro p e s m below meth c A ls hx hb hr hlk hml hown hmn hts htab hE hST hA hM hS hl
  replace hl : lv_has ls 2 [(0, .ref sa), (1, .int (nI i))] := hl
  have hS8 := hS9
  obtain ⟨hh, hz, hs1, ha1, hl1, ho1⟩ := hS9
  refine lv_aload_n hx hb dJ13_charAt_0 rfl (lv_at hl 0 rfl) ?_
  refine mm_callV (As := []) (rest := []) ⟨hx, hb, hml, hown, hts⟩ hE hST hA (c_J13_isLatin1 l Z hS8) (cwV 0 hts (lw_V q1760 q1761 q1762 q67 q1763) rfl rfl rfl (by decide +kernel) ⟨(Nat.le_of_ble_eq_true rfl), (Nat.le_of_ble_eq_true rfl)⟩) hM hS mm_cJ13 hs1 rfl hl.1 (Nat.le_of_ble_eq_true rfl) dJ13_charAt_1 rfl ⟨(Nat.le_of_ble_eq_true rfl), (Nat.le_of_ble_eq_true rfl)⟩ (fun _ _ _ _ _ _ h9 => h9.elim) (fun v_1 M_2 H locs hp_3 hM hS => ?_)
  obtain ⟨rfl, eM_2⟩ := hp_3
  rw [eM_2] at hM
  refine lv_if_eq (tgt := 16) hx hb dJ13_charAt_4 (by decide) (fun h9 => absurd h9 (by decide)) (fun _ => ?_)
  refine lv_aload_n hx hb dJ13_charAt_7 rfl (lv_at hl 0 rfl) ?_
  refine va_get (D := Z.1) (ci := 47) (v := .ref sar) (C := RJ13) (T := TJ13) (N := 4) hx hb hts in_J13 hown hE.1 (hM.at hs1) 0 rfl mm_cJ13 0 (by decide) (hts _ q1521) (fun _ h9 => h9) rfl dJ13_charAt_8 ?_
  refine lv_iload_n hx hb dJ13_charAt_11 rfl (lv_at hl 1 rfl) ?_
  refine mm_callS (As := [.ref sar, .int (nI i)]) (rest := []) ⟨hx, hb, hml, hown, hts⟩ hE hST hA (c_J16_charAt l Z hS8 hi) (va_cwS 2 hts (lw_S q1764 q1765 q77 q1766) rfl rfl rfl (by decide +kernel) ⟨(Nat.le_of_ble_eq_true rfl), (Nat.le_of_ble_eq_true rfl)⟩) hM hS rfl hl.1 (Nat.le_of_ble_eq_true rfl) dJ13_charAt_12 rfl ⟨(Nat.le_of_ble_eq_true rfl), (Nat.le_of_ble_eq_true rfl)⟩ (fun _ _ _ _ _ _ h9 => h9.elim) (fun v_4 M_5 H locs hp_6 hM hS => ?_)
  obtain ⟨rfl, eM_5⟩ := hp_6
  rw [eM_5] at hM
  have hch : narrow .char (.int (nI (ds.getD i 0))) = .int (nI (ds.getD i 0)) := by
    have hk : ∀ k : Nat, k < 128 → narrow .char (.int (nI k)) = .int (nI k) := by decide +kernel
    refine hk _ ?_
    rw [List.getD_eq_getElem?_getD, List.getElem?_eq_getElem hi]
    exact ho1 _ (List.getElem_mem hi)
  exact mm_retz hx hb hr hch hlk hM hS ⟨rfl, rfl⟩ dJ13_charAt_15 (Nat.le_of_ble_eq_true rfl) (Nat.le_of_ble_eq_true rfl)
