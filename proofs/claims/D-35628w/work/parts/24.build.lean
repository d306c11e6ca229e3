/-! ===== StringBuilder.append(char), new StringBuilder(), toString() ===== -/
set_option maxRecDepth 100000
set_option maxHeartbeats 4000000 in
set_option maxRecDepth 100000 in
theorem c_J18_append_3 (l : Launch) (Z : mm_G) {M : mm_M} {b ar cap : Nat} {cs : List Nat} (hT9 : TB Z M b ar cap cs) (hc : cap < 2 ^ 18) {k : Nat} (hk : k < 128) (hcs : cs.length < 2 ^ 18) : mm_C l Z yJ18_append_3 (ws_ yJ18_append_3 cJ18_append_3 2 (some (.object "java/lang/AbstractStringBuilder"))) { frames := 4, cells := tb_mk (cs.length + 1) cap, slots := tb_ms (cs.length + 1) cap, locals := 220 } [.ref b, .int (nI k)] M (fun v M' => v = some (.ref b) ∧ tb_post Z M M' b ar cap (cs.length + 1) (cs ++ [k])) mm_nx := by
  refine mm_ofW (cc := cJ18_append_3) (maxL := 2) (ret := (some (.object "java/lang/AbstractStringBuilder"))) (by decide) rfl (Nat.le_of_ble_eq_true rfl) ?_
  intro p e s m below meth c A ls hx hb hr hlk hml hown hmn hts htab hE hST hA hM hS hl
  replace hl : lv_has ls 2 [(0, .ref b), (1, .int (nI k))] := hl
  have hT8 := hT9
  have hbd := tb_cap_b (mn := cs.length + 1) hc (by omega)
  obtain ⟨hb9, ha, hlen, hc2, hok⟩ := hT9
  refine lv_aload_n hx hb dJ18_append_3_0 rfl (lv_at hl 0 rfl) ?_
  refine lv_aload_n hx hb dJ18_append_3_1 rfl (lv_at hl 0 rfl) ?_
  refine va_get (D := Z.1) (ci := 49) (v := .int (nI cs.length)) (C := RJ19) (T := TJ19) (N := 4) hx hb hts in_J19 hown hE.1 (hM.at hb9) 0 rfl mm_cJ19 3 (by decide) (hts _ q1321) (fun _ h9 => h9) rfl dJ18_append_3_2 ?_
  refine lv_iconst (v := 1) hx hb dJ18_append_3_5 (by decide) ?_
  refine lv_iadd hx hb dJ18_append_3_6 ?_
  rw [show ((nI cs.length) + 1 : Int32) = nI (cs.length + 1) from nI_1 _]
  refine mm_callU (As := [.int (nI (cs.length + 1))]) (rest := []) ⟨hx, hb, hml, hown, hts⟩ hE hST hA (c_J18_ensureCapacityInternal l Z hT8 hc (mn := cs.length + 1) (by omega)) (mm_cwP (x := ⟨"java/lang/AbstractStringBuilder", "ensureCapacityInternal", "(I)V"⟩) (C := RJ19) (owner := "java/lang/AbstractStringBuilder") 1 hts (lw_app (lw_in _ [1343, 2854, 1345, 92] (by decide +kernel) (by decide +kernel)) (lw_meth q1346)) (hE.2.2.2.2.2.2.2 _ (by decide)) rfl rfl rfl rfl (by decide +kernel) ⟨(Nat.le_of_ble_eq_true rfl), (Nat.le_of_ble_eq_true rfl)⟩) hM hS mm_cJ19 hb9 rfl hl.1 (Nat.le_of_ble_eq_true rfl) dJ18_append_3_7 rfl ⟨(by dsimp only; omega), (by dsimp only; omega)⟩ (fun _ _ _ _ _ _ h9 => h9.elim) (fun v_1 M_2 H locs hp_3 hM hS => ?_)
  obtain ⟨rfl, hp9⟩ := hp_3
  obtain ⟨ar1, hT1, hk1, ho1⟩ := hp9
  have hT2 := hT1
  obtain ⟨hb1, ha1, hlen1, hcc1, hok1⟩ := hT1
  refine lv_aload_n hx hb dJ18_append_3_10 rfl (lv_at hl 0 rfl) ?_
  refine mm_callU (As := []) (rest := []) ⟨hx, hb, hml, hown, hts⟩ hE hST hA (c_J18_isLatin1 l Z hT2) (va_cwU (x := ⟨"java/lang/AbstractStringBuilder", "isLatin1", "()Z"⟩) (C := RJ19) (owner := "java/lang/AbstractStringBuilder") 0 hts (lw_app (lw_in _ [1363, 1365, 1366, 1364, 92] (by decide +kernel) (by decide +kernel)) (lw_meth q1367)) rfl rfl rfl rfl (by decide +kernel) ⟨(Nat.le_of_ble_eq_true rfl), (Nat.le_of_ble_eq_true rfl)⟩) hM hS mm_cJ19 hb1 rfl hl.1 (Nat.le_of_ble_eq_true rfl) dJ18_append_3_11 rfl ⟨(by dsimp only; omega), (by dsimp only; omega)⟩ (fun _ _ _ _ _ _ h9 => h9.elim) (fun v_4 M_5 H locs hp_6 hM hS => ?_)
  obtain ⟨rfl, eM_5⟩ := hp_6
  rw [eM_5] at hM
  refine lv_if_eq (tgt := 45) hx hb dJ18_append_3_14 (by decide) (fun h9 => absurd h9 (by decide : (1 : Int32) ≠ 0)) (fun _ => ?_)
  refine lv_iload_n hx hb dJ18_append_3_17 rfl (lv_at hl 1 rfl) ?_
  refine mm_callS (As := [.int (nI k)]) (rest := []) ⟨hx, hb, hml, hown, hts⟩ hE hST hA (c_J16_canEncode l Z hk) (va_cwS 1 hts (lw_S q1633 q1634 q77 q1635) rfl rfl rfl (by decide +kernel) ⟨(Nat.le_of_ble_eq_true rfl), (Nat.le_of_ble_eq_true rfl)⟩) hM hS rfl hl.1 (Nat.le_of_ble_eq_true rfl) dJ18_append_3_18 rfl ⟨(by dsimp only; omega), (by dsimp only; omega)⟩ (fun _ _ _ _ _ _ h9 => h9.elim) (fun v_7 M_8 H locs hp_9 hM hS => ?_)
  obtain ⟨rfl, eM_8⟩ := hp_9
  rw [eM_8] at hM
  refine lv_if_eq (tgt := 45) hx hb dJ18_append_3_21 (by decide) (fun h9 => absurd h9 (by decide : (1 : Int32) ≠ 0)) (fun _ => ?_)
  refine lv_aload_n hx hb dJ18_append_3_24 rfl (lv_at hl 0 rfl) ?_
  refine va_get (D := Z.1) (ci := 49) (v := .ref ar1) (C := RJ19) (T := TJ19) (N := 4) hx hb hts in_J19 hown hE.1 (hM.at hb1) 0 rfl mm_cJ19 0 (by decide) (hts _ q1318) (fun _ h9 => h9) rfl dJ18_append_3_25 ?_
  refine lv_aload_n hx hb dJ18_append_3_28 rfl (lv_at hl 0 rfl) ?_
  refine lv_dup hx hb dJ18_append_3_29 rfl ?_
  refine va_get (D := Z.1) (ci := 49) (v := .int (nI cs.length)) (C := RJ19) (T := TJ19) (N := 4) hx hb hts in_J19 hown hE.1 (hM.at hb1) 0 rfl mm_cJ19 3 (by decide) (hts _ q1321) (fun _ h9 => h9) rfl dJ18_append_3_30 ?_
  refine lv_dup_x1 hx hb dJ18_append_3_33 rfl rfl ?_
  refine lv_iconst (v := 1) hx hb dJ18_append_3_34 (by decide) ?_
  refine lv_iadd hx hb dJ18_append_3_35 ?_
  rw [show ((nI cs.length) + 1 : Int32) = nI (cs.length + 1) from nI_1 _]
  refine mm_put (D := Z.1) (ci := 49) (v := .int (nI (cs.length + 1))) (ty := .int) (C := RJ19) (T := TJ19) (N := 4) hx hb hts in_J19 tyJ19 tyJ19_ok nmJ19 hown hE.1 hM hS hb1 mm_cJ19 3 (by decide) (hts _ q1321) (fun _ h9 => h9) rfl (by decide +kernel) rfl rfl (Nat.le_of_ble_eq_true rfl) dJ18_append_3_36 (fun H locs hM hS => ?_)
  have hM : mm_P Z.1 mm_cl A (mm_U M_2 b (.inr (49, [.ref ar1, .int 0, .int 0, .int (nI (cs.length + 1))]))) H := hM
  have hc_10 : (mm_U M_2 b (.inr (49, [.ref ar1, .int 0, .int 0, .int (nI (cs.length + 1))]))) b = some (.inr (49, [.ref ar1, .int 0, .int 0, .int (nI (cs.length + 1))])) := mm_U_eq
  have hc_11 : (mm_U M_2 b (.inr (49, [.ref ar1, .int 0, .int 0, .int (nI (cs.length + 1))]))) ar1 = some (.inl (Z.2.1 1, (tb_cap (cs.length + 1) cap), .inl (tb_f cs))) := (mm_U_ne (Ne.symm (Ne.symm (mm_neA ha1 hb1)))).trans ha1
  obtain ⟨M_12, eM_12⟩ : ∃ z, z = mm_U M_2 b (.inr (49, [.ref ar1, .int 0, .int 0, .int (nI (cs.length + 1))])) := ⟨_, rfl⟩
  rw [← eM_12] at hM hc_10 hc_11
  refine lv_iload_n hx hb dJ18_append_3_39 rfl (lv_at hl 1 rfl) ?_
  refine lv_i2b (v := (nI k).toInt8.toInt32) hx hb dJ18_append_3_40 rfl ?_
  rw [show ((nI k).toInt8.toInt32 : Int32) = nI k from tb_i2b hk]
  refine mm_bastK (k := cs.length) hx hb hE hM hS hc_11 rfl hbd.1 (by omega) (tb_nar hk) dJ18_append_3_41 (fun H locs hM hS => ?_)
  rw [show upd (tb_f cs) cs.length (nI k) = tb_f (cs ++ [k]) from tb_snoc] at hM
  have hM : mm_P Z.1 mm_cl A (mm_U M_12 ar1 (.inl (Z.2.1 1, (tb_cap (cs.length + 1) cap), .inl (tb_f (cs ++ [k]))))) H := hM
  have hc_13 : (mm_U M_12 ar1 (.inl (Z.2.1 1, (tb_cap (cs.length + 1) cap), .inl (tb_f (cs ++ [k]))))) ar1 = some (.inl (Z.2.1 1, (tb_cap (cs.length + 1) cap), .inl (tb_f (cs ++ [k])))) := mm_U_eq
  have hc_14 : (mm_U M_12 ar1 (.inl (Z.2.1 1, (tb_cap (cs.length + 1) cap), .inl (tb_f (cs ++ [k]))))) b = some (.inr (49, [.ref ar1, .int 0, .int 0, .int (nI (cs.length + 1))])) := (mm_U_ne (Ne.symm (mm_neA ha1 hb1))).trans hc_10
  obtain ⟨M_15, eM_15⟩ : ∃ z, z = mm_U M_12 ar1 (.inl (Z.2.1 1, (tb_cap (cs.length + 1) cap), .inl (tb_f (cs ++ [k])))) := ⟨_, rfl⟩
  rw [← eM_15] at hM hc_14 hc_13
  refine lv_goto (tgt := 75) hx hb dJ18_append_3_42 (by decide) ?_
  refine lv_aload_n hx hb dJ18_append_3_75 rfl (lv_at hl 0 rfl) ?_
  have hT6 : TB Z M_15 b ar1 (tb_cap (cs.length + 1) cap) (cs ++ [k]) := ⟨by rw [List.length_append]; exact hc_14, hc_13, by rw [List.length_append]; exact hbd.1, hbd.2.2, tb_ok_app hok (fun x hx => by simp at hx; omega)⟩
  exact mm_reta hx hb hr (Or.inl ⟨_, rfl⟩) (Or.inr ⟨_, rfl⟩) hlk hM hS ⟨rfl, tb_post.trans ho1 hk1 hT6 (fun q h1 h2 => by rw [eM_15, mm_U_ne h2, eM_12, mm_U_ne h1])⟩ dJ18_append_3_76 (by dsimp only; omega) (by dsimp only; omega)
set_option maxHeartbeats 4000000 in
set_option maxRecDepth 100000 in
theorem c_J19_append_3 (l : Launch) (Z : mm_G) {M : mm_M} {b ar cap : Nat} {cs : List Nat} (hT9 : TB Z M b ar cap cs) (hc : cap < 2 ^ 18) {k : Nat} (hk : k < 128) (hcs : cs.length < 2 ^ 18) : mm_C l Z yJ19_append_3 (ws_ yJ19_append_3 cJ19_append_3 2 (some (.object "java/lang/StringBuilder"))) { frames := 5, cells := tb_mk (cs.length + 1) cap, slots := tb_ms (cs.length + 1) cap, locals := 260 } [.ref b, .int (nI k)] M (fun v M' => v = some (.ref b) ∧ tb_post Z M M' b ar cap (cs.length + 1) (cs ++ [k])) mm_nx := by
  refine mm_ofW (cc := cJ19_append_3) (maxL := 2) (ret := (some (.object "java/lang/StringBuilder"))) (by decide) rfl (Nat.le_of_ble_eq_true rfl) ?_
  intro p e s m below meth c A ls hx hb hr hlk hml hown hmn hts htab hE hST hA hM hS hl
  replace hl : lv_has ls 2 [(0, .ref b), (1, .int (nI k))] := hl
  have hT8 := hT9
  obtain ⟨hb9, ha, hlen, hc2, hok⟩ := hT9
  refine lv_aload_n hx hb dJ19_append_3_0 rfl (lv_at hl 0 rfl) ?_
  refine lv_iload_n hx hb dJ19_append_3_1 rfl (lv_at hl 1 rfl) ?_
  refine mm_callSU (As := [.int (nI k)]) (rest := []) ⟨hx, hb, hml, hown, hts⟩ hE hST hA (c_J18_append_3 l Z hT8 hc hk hcs) (va_cwSU 1 hts (lw_app (lw_in _ [1630, 2861, 1330, 1631, 92] (by decide +kernel) (by decide +kernel)) (lw_meth q1632)) rfl rfl rfl (by decide +kernel) ⟨(Nat.le_of_ble_eq_true rfl), (Nat.le_of_ble_eq_true rfl)⟩) hM hS mm_cJ19 hb9 rfl hl.1 (Nat.le_of_ble_eq_true rfl) dJ19_append_3_2 rfl ⟨(by dsimp only; omega), (by dsimp only; omega)⟩ (fun _ _ _ _ _ _ h9 => h9.elim) (fun v_1 M_2 H locs hp_3 hM hS => ?_)
  obtain ⟨rfl, hp9⟩ := hp_3
  refine lv_pop hx hb dJ19_append_3_5 rfl ?_
  refine lv_aload_n hx hb dJ19_append_3_6 rfl (lv_at hl 0 rfl) ?_
  exact mm_reta hx hb hr (Or.inl ⟨_, rfl⟩) (Or.inr ⟨_, rfl⟩) hlk hM hS ⟨rfl, hp9⟩ dJ19_append_3_7 (by dsimp only; omega) (by dsimp only; omega)
set_option maxHeartbeats 4000000 in
set_option maxRecDepth 100000 in
theorem c_J18_init (l : Launch) (Z : mm_G) {M : mm_M} {b : Nat} (hb9 : M b = some (.inr (49, [.null, .int 0, .int 0, .int 0]))) : mm_C l Z yJ18_init (ws_ yJ18_init cJ18_init 2 none) { frames := 2, cells := 1, slots := 16, locals := 60 } [.ref b, .int (nI 16)] M (fun v M' => v = none ∧ ∃ q : Nat, M q = none ∧ TB Z M' b q 16 [] ∧ ∀ q9 : Nat, q9 ≠ b → q9 ≠ q → M' q9 = M q9) mm_nx := by
  refine mm_ofW (cc := cJ18_init) (maxL := 2) (ret := none) (by decide) rfl (Nat.le_of_ble_eq_true rfl) ?_
  intro p e s m below meth c A ls hx hb hr hlk hml hown hmn hts htab hE hST hA hM hS hl
  replace hl : lv_has ls 2 [(0, .ref b), (1, .int (nI 16))] := hl
  refine lv_aload_n hx hb dJ18_init_0 rfl (lv_at hl 0 rfl) ?_
  refine W.objInit hx hb hown (hts _ q1309) (hts _ q127) (hts _ q128) rfl (by rw [hml]; exact hl.1) rfl dJ18_init_1 (Nat.le_of_ble_eq_true rfl) (Nat.le_of_ble_eq_true rfl) ?_
  refine W.eq (g2 := F0 m 4 ls []) rfl ?_
  refine va_gets hx hb (hST.1 _ (List.mem_of_getElem? (i := 6) rfl)) hS hown (hts _ q1310) (fun _ h9 => h9) dJ18_init_4 ?_
  refine lv_if_eq (tgt := 25) hx hb dJ18_init_7 (by decide) (fun h9 => absurd h9 (by decide : (1 : Int32) ≠ 0)) (fun _ => ?_)
  refine lv_aload_n hx hb dJ18_init_10 rfl (lv_at hl 0 rfl) ?_
  refine lv_iload_n hx hb dJ18_init_11 rfl (lv_at hl 1 rfl) ?_
  refine mm_newa (atype := .byte) (ty := .byte) (a0 := (16, .inl (fun _ => 0))) hx hb (hts _ q172) rfl (fun C9 h9 => by cases h9) hE.1 hM hS hA 1 rfl (fun _ => rfl) (nI_pos (by omega)) (nI_clamp (by omega)) (by decide) (Nat.le_of_ble_eq_true rfl) (Nat.le_of_ble_eq_true rfl) dJ18_init_12 (fun q_1 H nq_2 hM hS => ?_)
  have hM : mm_P Z.1 mm_cl A (mm_U M q_1 (.inl (Z.2.1 1, 16, .inl (fun _ => 0)))) H := hM
  have ne_3 : b ≠ q_1 := (mm_neN hb9 nq_2)
  have hc_4 : (mm_U M q_1 (.inl (Z.2.1 1, 16, .inl (fun _ => 0)))) q_1 = some (.inl (Z.2.1 1, 16, .inl (fun _ => 0))) := mm_U_eq
  have hc_5 : (mm_U M q_1 (.inl (Z.2.1 1, 16, .inl (fun _ => 0)))) b = some (.inr (49, [.null, .int 0, .int 0, .int 0])) := (mm_U_ne ne_3).trans hb9
  obtain ⟨M_6, eM_6⟩ : ∃ z, z = mm_U M q_1 (.inl (Z.2.1 1, 16, .inl (fun _ => 0))) := ⟨_, rfl⟩
  rw [← eM_6] at hM hc_5 hc_4
  refine mm_put (D := Z.1) (ci := 49) (v := .ref q_1) (ty := .array (.byte)) (C := RJ19) (T := TJ19) (N := 4) hx hb hts in_J19 tyJ19 tyJ19_ok nmJ19 hown hE.1 hM hS hc_5 mm_cJ19 0 (by decide) (hts _ q1318) (fun _ h9 => h9) rfl (by decide +kernel) rfl rfl (Nat.le_of_ble_eq_true rfl) dJ18_init_14 (fun H locs hM hS => ?_)
  have hM : mm_P Z.1 mm_cl A (mm_U M_6 b (.inr (49, [.ref q_1, .int 0, .int 0, .int 0]))) H := hM
  have hc_7 : (mm_U M_6 b (.inr (49, [.ref q_1, .int 0, .int 0, .int 0]))) b = some (.inr (49, [.ref q_1, .int 0, .int 0, .int 0])) := mm_U_eq
  have hc_8 : (mm_U M_6 b (.inr (49, [.ref q_1, .int 0, .int 0, .int 0]))) q_1 = some (.inl (Z.2.1 1, 16, .inl (fun _ => 0))) := (mm_U_ne (Ne.symm (mm_neN hb9 nq_2))).trans hc_4
  obtain ⟨M_9, eM_9⟩ : ∃ z, z = mm_U M_6 b (.inr (49, [.ref q_1, .int 0, .int 0, .int 0])) := ⟨_, rfl⟩
  rw [← eM_9] at hM hc_7 hc_8
  refine lv_aload_n hx hb dJ18_init_17 rfl (lv_at hl 0 rfl) ?_
  refine lv_iconst (v := 0) hx hb dJ18_init_18 (by decide) ?_
  refine mm_put (D := Z.1) (ci := 49) (v := .int 0) (ty := .byte) (C := RJ19) (T := TJ19) (N := 4) hx hb hts in_J19 tyJ19 tyJ19_ok nmJ19 hown hE.1 hM hS hc_7 mm_cJ19 1 (by decide) (hts _ q1319) (fun _ h9 => h9) rfl (by decide +kernel) rfl rfl (Nat.le_of_ble_eq_true rfl) dJ18_init_19 (fun H locs hM hS => ?_)
  have hM : mm_P Z.1 mm_cl A (mm_U M_9 b (.inr (49, [.ref q_1, .int 0, .int 0, .int 0]))) H := hM
  have hc_10 : (mm_U M_9 b (.inr (49, [.ref q_1, .int 0, .int 0, .int 0]))) b = some (.inr (49, [.ref q_1, .int 0, .int 0, .int 0])) := mm_U_eq
  have hc_11 : (mm_U M_9 b (.inr (49, [.ref q_1, .int 0, .int 0, .int 0]))) q_1 = some (.inl (Z.2.1 1, 16, .inl (fun _ => 0))) := (mm_U_ne (Ne.symm (mm_neN hb9 nq_2))).trans hc_8
  obtain ⟨M_12, eM_12⟩ : ∃ z, z = mm_U M_9 b (.inr (49, [.ref q_1, .int 0, .int 0, .int 0])) := ⟨_, rfl⟩
  rw [← eM_12] at hM hc_10 hc_11
  refine lv_goto (tgt := 38) hx hb dJ18_init_22 (by decide) ?_
  exact mm_retv hx hb hr hlk hM hS ⟨rfl, q_1, nq_2, ⟨hc_10, hc_11, Nat.zero_le _, by decide, fun x hx => by cases hx⟩, fun q h1 h2 => by rw [eM_12, mm_U_ne h1, eM_9, mm_U_ne h1, eM_6, mm_U_ne h2]⟩ dJ18_init_38 (Nat.le_of_ble_eq_true rfl) (Nat.le_of_ble_eq_true rfl)
set_option maxHeartbeats 4000000 in
set_option maxRecDepth 100000 in
theorem c_J19_init (l : Launch) (Z : mm_G) {M : mm_M} {b : Nat} (hb9 : M b = some (.inr (49, [.null, .int 0, .int 0, .int 0]))) : mm_C l Z yJ19_init (ws_ yJ19_init cJ19_init 1 none) { frames := 3, cells := 1, slots := 16, locals := 100 } [.ref b] M (fun v M' => v = none ∧ ∃ q : Nat, M q = none ∧ TB Z M' b q 16 [] ∧ ∀ q9 : Nat, q9 ≠ b → q9 ≠ q → M' q9 = M q9) mm_nx := by
  refine mm_ofW (cc := cJ19_init) (maxL := 1) (ret := none) (by decide) rfl (Nat.le_of_ble_eq_true rfl) ?_
  intro p e s m below meth c A ls hx hb hr hlk hml hown hmn hts htab hE hST hA hM hS hl
  replace hl : lv_has ls 1 [(0, .ref b)] := hl
  refine lv_aload_n hx hb dJ19_init_0 rfl (lv_at hl 0 rfl) ?_
  refine lv_bipush (v := 16) hx hb dJ19_init_1 (by decide) ?_
  refine mm_callI (As := [.int 16]) (rest := []) ⟨hx, hb, hml, hown, hts⟩ hE hST hA (c_J18_init l Z hb9) (cwI (maxL := 2) 1 hts (lw_meth q1308) rfl rfl rfl (hts _ q92) (hts _ q1306) (hts _ q1307) rfl (by decide +kernel) ⟨(Nat.le_of_ble_eq_true rfl), (Nat.le_of_ble_eq_true rfl)⟩) hM hS rfl hl.1 (Nat.le_of_ble_eq_true rfl) dJ19_init_3 rfl ⟨(Nat.le_of_ble_eq_true rfl), (Nat.le_of_ble_eq_true rfl)⟩ (fun _ _ _ _ _ _ h9 => h9.elim) (fun v_1 M_2 H locs hp_3 hM hS => ?_)
  obtain ⟨rfl, hp9⟩ := hp_3
  exact mm_retv hx hb hr hlk hM hS ⟨rfl, hp9⟩ dJ19_init_6 (Nat.le_of_ble_eq_true rfl) (Nat.le_of_ble_eq_true rfl)
