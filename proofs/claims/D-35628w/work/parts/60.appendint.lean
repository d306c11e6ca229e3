/-! ===== StringBuilder.append(int) ===== -/
set_option maxRecDepth 100000
theorem dgs_b (b : Bool) {n : Nat} (h : n ≤ 2 ^ 31) : 1 ≤ (dgs b n).length ∧ (dgs b n).length ≤ 11 := by
  rw [dgs_len h]
  have := dn_b n
  cases b <;> simp <;> omega

set_option maxHeartbeats 4000000 in
set_option maxRecDepth 100000 in
theorem c_J18_append_2 (l : Launch) (Z : mm_G) {M : mm_M} {b ar cap : Nat} {cs : List Nat} (hT9 : TB Z M b ar cap cs) (hc : cap < 2 ^ 18) {bb : Bool} {n : Nat} (hs9 : sg_ok bb n) (hcs : cs.length < 2 ^ 18) (hd9 : dg_T Z M) (hn3 : ar ≠ Z.2.2.1 3) (hn4 : ar ≠ Z.2.2.1 4) : mm_C l Z yJ18_append_2 (ws_ yJ18_append_2 cJ18_append_2 4 (some (.object "java/lang/AbstractStringBuilder"))) { frames := 4, cells := tb_mk (cs.length + (dgs bb n).length) cap, slots := tb_ms (cs.length + (dgs bb n).length) cap, locals := 220 } [.ref b, .int (sg bb n)] M (fun v M' => v = some (.ref b) ∧ tb_post Z M M' b ar cap (cs.length + (dgs bb n).length) (cs ++ dgs bb n)) mm_nx := by
  refine mm_ofW (cc := cJ18_append_2) (maxL := 4) (ret := (some (.object "java/lang/AbstractStringBuilder"))) (by decide) rfl (Nat.le_of_ble_eq_true rfl) ?_
  intro p e s m below meth c A ls hx hb hr hlk hml hown hmn hts htab hE hST hA hM hS hl
  replace hl : lv_has ls 4 [(0, .ref b), (1, .int (sg bb n))] := hl
  have hT8 := hT9
  have hdl := dgs_b bb hs9.1
  have hbd := tb_cap_b (mn := cs.length + (dgs bb n).length) hc (by omega)
  obtain ⟨hb9, ha, hlen, hc2, hok⟩ := hT9
  obtain ⟨d1, d2, h3, h4, hd⟩ := hd9
  refine lv_aload_n hx hb dJ18_append_2_0 rfl (lv_at hl 0 rfl) ?_
  refine va_get (D := Z.1) (ci := 49) (v := .int (nI cs.length)) (C := RJ19) (T := TJ19) (N := 4) hx hb hts in_J19 hown hE.1 (hM.at hb9) 0 rfl mm_cJ19 3 (by decide) (hts _ q1321) (fun _ h9 => h9) rfl dJ18_append_2_1 ?_
  refine lv_istore_n hx hb dJ18_append_2_4 rfl hl (by decide) rfl (fun ls hl => ?_)
  replace hl : lv_has ls 4 [(2, .int (nI cs.length)), (0, .ref b), (1, .int (sg bb n))] := hl
  refine lv_iload_n hx hb dJ18_append_2_5 rfl (lv_at hl 0 rfl) ?_
  refine lv_iload_n hx hb dJ18_append_2_6 rfl (lv_at hl 2 rfl) ?_
  refine mm_callS (As := [.int (sg bb n)]) (rest := [.int (nI cs.length)]) ⟨hx, hb, hml, hown, hts⟩ hE hST hA (c_J21_stringSize l Z hs9) (va_cwS 1 hts (lw_S q1443 q1444 q96 q1445) rfl rfl rfl (by decide +kernel) ⟨(Nat.le_of_ble_eq_true rfl), (Nat.le_of_ble_eq_true rfl)⟩) hM hS rfl hl.1 (Nat.le_of_ble_eq_true rfl) dJ18_append_2_7 rfl ⟨(by dsimp only; omega), (by dsimp only; omega)⟩ (fun _ _ _ _ _ _ h9 => h9.elim) (fun v_1 M_2 H locs hp_3 hM hS => ?_)
  obtain ⟨rfl, eM_2⟩ := hp_3
  rw [eM_2] at hM
  refine lv_iadd hx hb dJ18_append_2_10 ?_
  rw [show ((nI cs.length) + (nI (dgs bb n).length) : Int32) = nI (cs.length + (dgs bb n).length) from nI_add _ _]
  refine lv_istore_n hx hb dJ18_append_2_11 rfl hl (by decide) rfl (fun ls hl => ?_)
  replace hl : lv_has ls 4 [(3, .int (nI (cs.length + (dgs bb n).length))), (2, .int (nI cs.length)), (0, .ref b), (1, .int (sg bb n))] := hl
  refine lv_aload_n hx hb dJ18_append_2_12 rfl (lv_at hl 2 rfl) ?_
  refine lv_iload_n hx hb dJ18_append_2_13 rfl (lv_at hl 0 rfl) ?_
  refine mm_callU (As := [.int (nI (cs.length + (dgs bb n).length))]) (rest := []) ⟨hx, hb, hml, hown, hts⟩ hE hST hA (c_J18_ensureCapacityInternal l Z hT8 hc (mn := cs.length + (dgs bb n).length) (by omega)) (mm_cwP (x := ⟨"java/lang/AbstractStringBuilder", "ensureCapacityInternal", "(I)V"⟩) (C := RJ19) (owner := "java/lang/AbstractStringBuilder") 1 hts (lw_app (lw_in _ [1343, 2854, 1345, 92] (by decide +kernel) (by decide +kernel)) (lw_meth q1346)) (hE.2.2.2.2.2.2.2 _ (by decide)) rfl rfl rfl rfl (by decide +kernel) ⟨(Nat.le_of_ble_eq_true rfl), (Nat.le_of_ble_eq_true rfl)⟩) hM hS mm_cJ19 hb9 rfl hl.1 (Nat.le_of_ble_eq_true rfl) dJ18_append_2_14 rfl ⟨(by dsimp only; omega), (by dsimp only; omega)⟩ (fun _ _ _ _ _ _ h9 => h9.elim) (fun v_4 M_5 H locs hp_6 hM hS => ?_)
  obtain ⟨rfl, hp9⟩ := hp_6
  have hk_7 : M_5 (Z.2.2.1 3) = some (.inl (Z.2.1 1, 100, .inl d1)) := tb_post.keep hp9 h3 (mm_neA h3 hb9) (Ne.symm hn3)
  have hk_8 : M_5 (Z.2.2.1 4) = some (.inl (Z.2.1 1, 100, .inl d2)) := tb_post.keep hp9 h4 (mm_neA h4 hb9) (Ne.symm hn4)
  obtain ⟨ar1, hT1, hk1, ho1⟩ := hp9
  have hT2 := hT1
  obtain ⟨hb1, ha1, hlen1, hcc1, hok1⟩ := hT1
  refine lv_aload_n hx hb dJ18_append_2_17 rfl (lv_at hl 2 rfl) ?_
  refine mm_callU (As := []) (rest := []) ⟨hx, hb, hml, hown, hts⟩ hE hST hA (c_J18_isLatin1 l Z hT2) (va_cwU (x := ⟨"java/lang/AbstractStringBuilder", "isLatin1", "()Z"⟩) (C := RJ19) (owner := "java/lang/AbstractStringBuilder") 0 hts (lw_app (lw_in _ [1363, 1365, 1366, 1364, 92] (by decide +kernel) (by decide +kernel)) (lw_meth q1367)) rfl rfl rfl rfl (by decide +kernel) ⟨(Nat.le_of_ble_eq_true rfl), (Nat.le_of_ble_eq_true rfl)⟩) hM hS mm_cJ19 hb1 rfl hl.1 (Nat.le_of_ble_eq_true rfl) dJ18_append_2_18 rfl ⟨(by dsimp only; omega), (by dsimp only; omega)⟩ (fun _ _ _ _ _ _ h9 => h9.elim) (fun v_9 M_10 H locs hp_11 hM hS => ?_)
  obtain ⟨rfl, eM_10⟩ := hp_11
  rw [eM_10] at hM
  refine lv_if_eq (tgt := 37) hx hb dJ18_append_2_21 (by decide) (fun h9 => absurd h9 (by decide : (1 : Int32) ≠ 0)) (fun _ => ?_)
  refine lv_iload_n hx hb dJ18_append_2_24 rfl (lv_at hl 3 rfl) ?_
  refine lv_iload_n hx hb dJ18_append_2_25 rfl (lv_at hl 0 rfl) ?_
  refine lv_aload_n hx hb dJ18_append_2_26 rfl (lv_at hl 2 rfl) ?_
  refine va_get (D := Z.1) (ci := 49) (v := .ref ar1) (C := RJ19) (T := TJ19) (N := 4) hx hb hts in_J19 hown hE.1 (hM.at hb1) 0 rfl mm_cJ19 0 (by decide) (hts _ q1318) (fun _ h9 => h9) rfl dJ18_append_2_27 ?_
  have hm3 := Ne.symm (tb_ne1 h3 ho1 (Ne.symm hn3))
  have hm4 := Ne.symm (tb_ne1 h4 ho1 (Ne.symm hn4))
  have hba := Ne.symm (mm_neA ha1 hb1)
  refine mm_callS (As := [.int (sg bb n), .int (nI (cs.length + (dgs bb n).length)), .ref ar1]) (rest := []) ⟨hx, hb, hml, hown, hts⟩ hE hST hA (c_J21_getChars l Z hs9 ha1 rfl hbd.1 hbd.2.2 ⟨d1, d2, hk_7, hk_8, hd⟩ hm3 hm4) (va_cwS 3 hts (lw_S q1446 q1447 q96 q1448) rfl rfl rfl (by decide +kernel) ⟨(Nat.le_of_ble_eq_true rfl), (Nat.le_of_ble_eq_true rfl)⟩) hM hS rfl hl.1 (Nat.le_of_ble_eq_true rfl) dJ18_append_2_30 rfl ⟨(by dsimp only; omega), (by dsimp only; omega)⟩ (fun _ _ _ _ _ _ h9 => h9.elim) (fun v_12 M_13 H locs hp_14 hM hS => ?_)
  obtain ⟨rfl, hg9, hkg⟩ := hp_14
  have hb8 := (hkg b hba).trans hb1
  refine lv_pop hx hb dJ18_append_2_33 rfl ?_
  refine lv_goto (tgt := 48) hx hb dJ18_append_2_34 (by decide) ?_
  refine lv_aload_n hx hb dJ18_append_2_48 rfl (lv_at hl 2 rfl) ?_
  refine lv_iload_n hx hb dJ18_append_2_49 rfl (lv_at hl 0 rfl) ?_
  refine mm_put (D := Z.1) (ci := 49) (v := .int (nI (cs.length + (dgs bb n).length))) (ty := .int) (C := RJ19) (T := TJ19) (N := 4) hx hb hts in_J19 tyJ19 tyJ19_ok nmJ19 hown hE.1 hM hS hb8 mm_cJ19 3 (by decide) (hts _ q1321) (fun _ h9 => h9) rfl (by decide +kernel) rfl rfl (Nat.le_of_ble_eq_true rfl) dJ18_append_2_50 (fun H locs hM hS => ?_)
  have hM : mm_P Z.1 mm_cl A (mm_U M_13 b (.inr (49, [.ref ar1, .int 0, .int 0, .int (nI (cs.length + (dgs bb n).length))]))) H := hM
  have hc_15 : (mm_U M_13 b (.inr (49, [.ref ar1, .int 0, .int 0, .int (nI (cs.length + (dgs bb n).length))]))) b = some (.inr (49, [.ref ar1, .int 0, .int 0, .int (nI (cs.length + (dgs bb n).length))])) := mm_U_eq
  have hc_16 : (mm_U M_13 b (.inr (49, [.ref ar1, .int 0, .int 0, .int (nI (cs.length + (dgs bb n).length))]))) ar1 = some (.inl (Z.2.1 1, (tb_cap (cs.length + (dgs bb n).length) cap), .inl (tb_f (cs ++ dgs bb n)))) := (mm_U_ne (Ne.symm hba)).trans hg9
  obtain ⟨M_17, eM_17⟩ : ∃ z, z = mm_U M_13 b (.inr (49, [.ref ar1, .int 0, .int 0, .int (nI (cs.length + (dgs bb n).length))])) := ⟨_, rfl⟩
  rw [← eM_17] at hM hc_15 hc_16
  refine lv_aload_n hx hb dJ18_append_2_53 rfl (lv_at hl 2 rfl) ?_
  have hT6 : TB Z M_17 b ar1 (tb_cap (cs.length + (dgs bb n).length) cap) (cs ++ dgs bb n) := ⟨by rw [List.length_append]; exact hc_15, hc_16, by rw [List.length_append]; exact hbd.1, hbd.2.2, tb_ok_app hok (dgs_ok bb n)⟩
  exact mm_reta hx hb hr (Or.inl ⟨_, rfl⟩) (Or.inr ⟨_, rfl⟩) hlk hM hS ⟨rfl, tb_post.trans ho1 hk1 hT6 (fun q h1 h2 => by rw [eM_17, mm_U_ne h1]; exact hkg q h2)⟩ dJ18_append_2_54 (by dsimp only; omega) (by dsimp only; omega)
set_option maxHeartbeats 4000000 in
set_option maxRecDepth 100000 in
theorem c_J19_append_2 (l : Launch) (Z : mm_G) {M : mm_M} {b ar cap : Nat} {cs : List Nat} (hT9 : TB Z M b ar cap cs) (hc : cap < 2 ^ 18) {bb : Bool} {n : Nat} (hs9 : sg_ok bb n) (hcs : cs.length < 2 ^ 18) (hd9 : dg_T Z M) (hn3 : ar ≠ Z.2.2.1 3) (hn4 : ar ≠ Z.2.2.1 4) : mm_C l Z yJ19_append_2 (ws_ yJ19_append_2 cJ19_append_2 2 (some (.object "java/lang/StringBuilder"))) { frames := 5, cells := tb_mk (cs.length + (dgs bb n).length) cap, slots := tb_ms (cs.length + (dgs bb n).length) cap, locals := 260 } [.ref b, .int (sg bb n)] M (fun v M' => v = some (.ref b) ∧ tb_post Z M M' b ar cap (cs.length + (dgs bb n).length) (cs ++ dgs bb n)) mm_nx := by
  refine mm_ofW (cc := cJ19_append_2) (maxL := 2) (ret := (some (.object "java/lang/StringBuilder"))) (by decide) rfl (Nat.le_of_ble_eq_true rfl) ?_
  intro p e s m below meth c A ls hx hb hr hlk hml hown hmn hts htab hE hST hA hM hS hl
  replace hl : lv_has ls 2 [(0, .ref b), (1, .int (sg bb n))] := hl
  have hT8 := hT9
  obtain ⟨hb9, ha, hlen, hc2, hok⟩ := hT9
  refine lv_aload_n hx hb dJ19_append_2_0 rfl (lv_at hl 0 rfl) ?_
  refine lv_iload_n hx hb dJ19_append_2_1 rfl (lv_at hl 1 rfl) ?_
  refine mm_callSU (As := [.int (sg bb n)]) (rest := []) ⟨hx, hb, hml, hown, hts⟩ hE hST hA (c_J18_append_2 l Z hT8 hc hs9 hcs hd9 hn3 hn4) (va_cwSU 1 hts (lw_app (lw_in _ [1440, 2859, 1330, 1441, 92] (by decide +kernel) (by decide +kernel)) (lw_meth q1442)) rfl rfl rfl (by decide +kernel) ⟨(Nat.le_of_ble_eq_true rfl), (Nat.le_of_ble_eq_true rfl)⟩) hM hS mm_cJ19 hb9 rfl hl.1 (Nat.le_of_ble_eq_true rfl) dJ19_append_2_2 rfl ⟨(by dsimp only; omega), (by dsimp only; omega)⟩ (fun _ _ _ _ _ _ h9 => h9.elim) (fun v_1 M_2 H locs hp_3 hM hS => ?_)
  obtain ⟨rfl, hp9⟩ := hp_3
  refine lv_pop hx hb dJ19_append_2_5 rfl ?_
  refine lv_aload_n hx hb dJ19_append_2_6 rfl (lv_at hl 0 rfl) ?_
  exact mm_reta hx hb hr (Or.inl ⟨_, rfl⟩) (Or.inr ⟨_, rfl⟩) hlk hM hS ⟨rfl, hp9⟩ dJ19_append_2_7 (by dsimp only; omega) (by dsimp only; omega)
