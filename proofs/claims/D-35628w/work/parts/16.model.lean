/-! ===== RowenTongueModel.Wrong: made without traces ===== -/
set_option maxRecDepth 100000
theorem mm_U_self {M : mm_M} {a : Nat} {e : va_E} (h : M a = some e) : mm_U M a e = M := by
  funext q
  by_cases hq : q = a
  · subst hq; simp [mm_U, h]
  · simp [mm_U, hq]
set_option maxHeartbeats 4000000 in
set_option maxRecDepth 100000 in
theorem c_J3_init_4 (l : Launch) (Z : mm_G) {M : mm_M} {a : Nat} (ha9 : M a = some (.inr (21, [.null, .null, .null, .null, .null, .int 0, .int 0]))) : mm_C l Z yJ3_init_4 (ws_ yJ3_init_4 cJ3_init_4 5 none) { frames := 1, cells := 0, slots := 0, locals := 40 } [.ref a, .null, .null, .int 0, .int 0] M (fun v M' => v = none ∧ M' = M) mm_nx := by
  refine mm_ofW (cc := cJ3_init_4) (maxL := 5) (ret := none) (by decide) rfl (Nat.le_of_ble_eq_true rfl) ?_
  intro p e s m below meth c A ls hx hb hr hlk hml hown hmn hts htab hE hST hA hM hS hl
  replace hl : lv_has ls 5 [(0, .ref a), (1, .null), (2, .null), (3, .int 0), (4, .int 0)] := hl
  obtain ⟨ru, hzu⟩ := mm_zq hST.2.1.1
  obtain ⟨rs, hzs⟩ := mm_zq hST.2.2.1.1
  refine lv_aload_n hx hb dJ3_init_4_0 rfl (lv_at hl 0 rfl) ?_
  refine W.objInit hx hb hown (hts _ q226) (hts _ q127) (hts _ q128) rfl (by rw [hml]; exact hl.1) rfl dJ3_init_4_1 (Nat.le_of_ble_eq_true rfl) (Nat.le_of_ble_eq_true rfl) ?_
  refine W.eq (g2 := F0 m 4 ls []) rfl ?_
  refine lv_aload_n hx hb dJ3_init_4_4 rfl (lv_at hl 0 rfl) ?_
  refine lv_aload_n hx hb dJ3_init_4_5 rfl (lv_at hl 0 rfl) ?_
  refine mm_put (D := Z.1) (ci := 21) (v := .ref a) (ty := .object "java/lang/Throwable") (C := RX26) (T := TX26) (N := 7) hx hb hts in_X26 tyX26 tyX26_ok nmX26 hown hE.1 hM hS ha9 mm_cX26 0 (by decide) (hts _ q259) (fun _ h9 => h9) rfl (by decide +kernel) rfl rfl (Nat.le_of_ble_eq_true rfl) dJ3_init_4_6 (fun H locs hM hS => ?_)
  have hM : mm_P Z.1 mm_cl A (mm_U M a (.inr (21, [.ref a, .null, .null, .null, .null, .int 0, .int 0]))) H := hM
  have hc_1 : (mm_U M a (.inr (21, [.ref a, .null, .null, .null, .null, .int 0, .int 0]))) a = some (.inr (21, [.ref a, .null, .null, .null, .null, .int 0, .int 0])) := mm_U_eq
  obtain ⟨M_2, eM_2⟩ : ∃ z, z = mm_U M a (.inr (21, [.ref a, .null, .null, .null, .null, .int 0, .int 0])) := ⟨_, rfl⟩
  rw [← eM_2] at hM hc_1
  refine lv_aload_n hx hb dJ3_init_4_9 rfl (lv_at hl 0 rfl) ?_
  refine va_gets hx hb hzu hS hown (hts _ q227) (fun _ h9 => h9) dJ3_init_4_10 ?_
  refine mm_put (D := Z.1) (ci := 21) (v := va_rf ru) (ty := .array (.object "java/lang/StackTraceElement")) (C := RX26) (T := TX26) (N := 7) hx hb hts in_X26 tyX26 tyX26_ok nmX26 hown hE.1 hM hS hc_1 mm_cX26 1 (by decide) (hts _ q260) (fun _ h9 => h9) rfl (by decide +kernel) (mm_nar_oa _ _) (mm_fit_oa _ _) (Nat.le_of_ble_eq_true rfl) dJ3_init_4_13 (fun H locs hM hS => ?_)
  have hM : mm_P Z.1 mm_cl A (mm_U M_2 a (.inr (21, [.ref a, va_rf ru, .null, .null, .null, .int 0, .int 0]))) H := hM
  have hc_3 : (mm_U M_2 a (.inr (21, [.ref a, va_rf ru, .null, .null, .null, .int 0, .int 0]))) a = some (.inr (21, [.ref a, va_rf ru, .null, .null, .null, .int 0, .int 0])) := mm_U_eq
  obtain ⟨M_4, eM_4⟩ : ∃ z, z = mm_U M_2 a (.inr (21, [.ref a, va_rf ru, .null, .null, .null, .int 0, .int 0])) := ⟨_, rfl⟩
  rw [← eM_4] at hM hc_3
  refine lv_aload_n hx hb dJ3_init_4_16 rfl (lv_at hl 0 rfl) ?_
  refine va_gets hx hb hzs hS hown (hts _ q229) (fun _ h9 => h9) dJ3_init_4_17 ?_
  refine mm_put (D := Z.1) (ci := 21) (v := va_rf rs) (ty := .object "java/util/List") (C := RX26) (T := TX26) (N := 7) hx hb hts in_X26 tyX26 tyX26_ok nmX26 hown hE.1 hM hS hc_3 mm_cX26 2 (by decide) (hts _ q261) (fun _ h9 => h9) rfl (by decide +kernel) (mm_nar_oo _ _) (mm_fit_oo _ _) (Nat.le_of_ble_eq_true rfl) dJ3_init_4_20 (fun H locs hM hS => ?_)
  have hM : mm_P Z.1 mm_cl A (mm_U M_4 a (.inr (21, [.ref a, va_rf ru, va_rf rs, .null, .null, .int 0, .int 0]))) H := hM
  have hc_5 : (mm_U M_4 a (.inr (21, [.ref a, va_rf ru, va_rf rs, .null, .null, .int 0, .int 0]))) a = some (.inr (21, [.ref a, va_rf ru, va_rf rs, .null, .null, .int 0, .int 0])) := mm_U_eq
  obtain ⟨M_6, eM_6⟩ : ∃ z, z = mm_U M_4 a (.inr (21, [.ref a, va_rf ru, va_rf rs, .null, .null, .int 0, .int 0])) := ⟨_, rfl⟩
  rw [← eM_6] at hM hc_5
  refine lv_iload hx hb dJ3_init_4_23 (lv_at hl 4 rfl) ?_
  refine lv_if_eq (tgt := 36) hx hb dJ3_init_4_25 (by decide) (fun _ => ?_) (fun h9 => absurd rfl h9)
  refine lv_aload_n hx hb dJ3_init_4_36 rfl (lv_at hl 0 rfl) ?_
  refine lv_null hx hb dJ3_init_4_37 ?_
  refine mm_put (D := Z.1) (ci := 21) (v := .null) (ty := .array (.object "java/lang/StackTraceElement")) (C := RX26) (T := TX26) (N := 7) hx hb hts in_X26 tyX26 tyX26_ok nmX26 hown hE.1 hM hS hc_5 mm_cX26 1 (by decide) (hts _ q260) (fun _ h9 => h9) rfl (by decide +kernel) rfl rfl (Nat.le_of_ble_eq_true rfl) dJ3_init_4_38 (fun H locs hM hS => ?_)
  have hM : mm_P Z.1 mm_cl A (mm_U M_6 a (.inr (21, [.ref a, .null, va_rf rs, .null, .null, .int 0, .int 0]))) H := hM
  have hc_7 : (mm_U M_6 a (.inr (21, [.ref a, .null, va_rf rs, .null, .null, .int 0, .int 0]))) a = some (.inr (21, [.ref a, .null, va_rf rs, .null, .null, .int 0, .int 0])) := mm_U_eq
  obtain ⟨M_8, eM_8⟩ : ∃ z, z = mm_U M_6 a (.inr (21, [.ref a, .null, va_rf rs, .null, .null, .int 0, .int 0])) := ⟨_, rfl⟩
  rw [← eM_8] at hM hc_7
  refine lv_aload_n hx hb dJ3_init_4_41 rfl (lv_at hl 0 rfl) ?_
  refine lv_aload_nN hx hb dJ3_init_4_42 rfl (lv_at hl 1 rfl) ?_
  refine mm_put (D := Z.1) (ci := 21) (v := .null) (ty := .object "java/lang/String") (C := RX26) (T := TX26) (N := 7) hx hb hts in_X26 tyX26 tyX26_ok nmX26 hown hE.1 hM hS hc_7 mm_cX26 3 (by decide) (hts _ q258) (fun _ h9 => h9) rfl (by decide +kernel) rfl rfl (Nat.le_of_ble_eq_true rfl) dJ3_init_4_43 (fun H locs hM hS => ?_)
  have hM : mm_P Z.1 mm_cl A (mm_U M_8 a (.inr (21, [.ref a, .null, va_rf rs, .null, .null, .int 0, .int 0]))) H := hM
  have hc_9 : (mm_U M_8 a (.inr (21, [.ref a, .null, va_rf rs, .null, .null, .int 0, .int 0]))) a = some (.inr (21, [.ref a, .null, va_rf rs, .null, .null, .int 0, .int 0])) := mm_U_eq
  obtain ⟨M_10, eM_10⟩ : ∃ z, z = mm_U M_8 a (.inr (21, [.ref a, .null, va_rf rs, .null, .null, .int 0, .int 0])) := ⟨_, rfl⟩
  rw [← eM_10] at hM hc_9
  refine lv_aload_n hx hb dJ3_init_4_46 rfl (lv_at hl 0 rfl) ?_
  refine lv_aload_nN hx hb dJ3_init_4_47 rfl (lv_at hl 2 rfl) ?_
  refine mm_put (D := Z.1) (ci := 21) (v := .null) (ty := .object "java/lang/Throwable") (C := RX26) (T := TX26) (N := 7) hx hb hts in_X26 tyX26 tyX26_ok nmX26 hown hE.1 hM hS hc_9 mm_cX26 0 (by decide) (hts _ q259) (fun _ h9 => h9) rfl (by decide +kernel) rfl rfl (Nat.le_of_ble_eq_true rfl) dJ3_init_4_48 (fun H locs hM hS => ?_)
  have hM : mm_P Z.1 mm_cl A (mm_U M_10 a (.inr (21, [.null, .null, va_rf rs, .null, .null, .int 0, .int 0]))) H := hM
  have hc_11 : (mm_U M_10 a (.inr (21, [.null, .null, va_rf rs, .null, .null, .int 0, .int 0]))) a = some (.inr (21, [.null, .null, va_rf rs, .null, .null, .int 0, .int 0])) := mm_U_eq
  obtain ⟨M_12, eM_12⟩ : ∃ z, z = mm_U M_10 a (.inr (21, [.null, .null, va_rf rs, .null, .null, .int 0, .int 0])) := ⟨_, rfl⟩
  rw [← eM_12] at hM hc_11
  refine lv_iload_n hx hb dJ3_init_4_51 rfl (lv_at hl 3 rfl) ?_
  refine lv_if_ne (tgt := 60) hx hb dJ3_init_4_52 (by decide) (fun h9 => absurd rfl h9) (fun _ => ?_)
  refine lv_aload_n hx hb dJ3_init_4_55 rfl (lv_at hl 0 rfl) ?_
  refine lv_null hx hb dJ3_init_4_56 ?_
  refine mm_put (D := Z.1) (ci := 21) (v := .null) (ty := .object "java/util/List") (C := RX26) (T := TX26) (N := 7) hx hb hts in_X26 tyX26 tyX26_ok nmX26 hown hE.1 hM hS hc_11 mm_cX26 2 (by decide) (hts _ q261) (fun _ h9 => h9) rfl (by decide +kernel) rfl rfl (Nat.le_of_ble_eq_true rfl) dJ3_init_4_57 (fun H locs hM hS => ?_)
  have hM : mm_P Z.1 mm_cl A (mm_U M_12 a (.inr (21, [.null, .null, .null, .null, .null, .int 0, .int 0]))) H := hM
  have hc_13 : (mm_U M_12 a (.inr (21, [.null, .null, .null, .null, .null, .int 0, .int 0]))) a = some (.inr (21, [.null, .null, .null, .null, .null, .int 0, .int 0])) := mm_U_eq
  obtain ⟨M_14, eM_14⟩ : ∃ z, z = mm_U M_12 a (.inr (21, [.null, .null, .null, .null, .null, .int 0, .int 0])) := ⟨_, rfl⟩
  rw [← eM_14] at hM hc_13
  have hMM : M_14 = M := by subst eM_14 eM_12 eM_10 eM_8 eM_6 eM_4 eM_2; simp only [mm_U_U]; exact mm_U_self ha9
  exact mm_retv hx hb hr hlk hM hS ⟨rfl, hMM⟩ dJ3_init_4_60 (Nat.le_of_ble_eq_true rfl) (Nat.le_of_ble_eq_true rfl)
set_option maxHeartbeats 4000000 in
set_option maxRecDepth 100000 in
theorem c_J4_init_4 (l : Launch) (Z : mm_G) {M : mm_M} {a : Nat} (ha9 : M a = some (.inr (21, [.null, .null, .null, .null, .null, .int 0, .int 0]))) : mm_C l Z yJ4_init_4 (ws_ yJ4_init_4 cJ4_init_4 5 none) { frames := 2, cells := 0, slots := 0, locals := 80 } [.ref a, .null, .null, .int 0, .int 0] M (fun v M' => v = none ∧ M' = M) mm_nx := by
  refine mm_ofW (cc := cJ4_init_4) (maxL := 5) (ret := none) (by decide) rfl (Nat.le_of_ble_eq_true rfl) ?_
  intro p e s m below meth c A ls hx hb hr hlk hml hown hmn hts htab hE hST hA hM hS hl
  replace hl : lv_has ls 5 [(0, .ref a), (1, .null), (2, .null), (3, .int 0), (4, .int 0)] := hl
  refine lv_aload_n hx hb dJ4_init_4_0 rfl (lv_at hl 0 rfl) ?_
  refine lv_aload_nN hx hb dJ4_init_4_1 rfl (lv_at hl 1 rfl) ?_
  refine lv_aload_nN hx hb dJ4_init_4_2 rfl (lv_at hl 2 rfl) ?_
  refine lv_iload_n hx hb dJ4_init_4_3 rfl (lv_at hl 3 rfl) ?_
  refine lv_iload hx hb dJ4_init_4_4 (lv_at hl 4 rfl) ?_
  refine mm_callI (As := [.null, .null, .int 0, .int 0]) (rest := []) ⟨hx, hb, hml, hown, hts⟩ hE hST hA (c_J3_init_4 l Z ha9) (cwI (maxL := 5) 4 hts (lw_meth q2549) rfl rfl rfl (hts _ q55) (hts _ q2547) (hts _ q2548) rfl (by decide +kernel) ⟨(Nat.le_of_ble_eq_true rfl), (Nat.le_of_ble_eq_true rfl)⟩) hM hS rfl hl.1 (Nat.le_of_ble_eq_true rfl) dJ4_init_4_6 rfl ⟨(Nat.le_of_ble_eq_true rfl), (Nat.le_of_ble_eq_true rfl)⟩ (fun _ _ _ _ _ _ h9 => h9.elim) (fun v_1 M_2 H locs hp_3 hM hS => ?_)
  obtain ⟨rfl, eM_2⟩ := hp_3
  rw [eM_2] at hM
  exact mm_retv hx hb hr hlk hM hS ⟨rfl, rfl⟩ dJ4_init_4_9 (Nat.le_of_ble_eq_true rfl) (Nat.le_of_ble_eq_true rfl)
set_option maxHeartbeats 4000000 in
set_option maxRecDepth 100000 in
theorem c_J5_init_3 (l : Launch) (Z : mm_G) {M : mm_M} {a : Nat} (ha9 : M a = some (.inr (21, [.null, .null, .null, .null, .null, .int 0, .int 0]))) : mm_C l Z yJ5_init_3 (ws_ yJ5_init_3 cJ5_init_3 5 none) { frames := 3, cells := 0, slots := 0, locals := 120 } [.ref a, .null, .null, .int 0, .int 0] M (fun v M' => v = none ∧ M' = M) mm_nx := by
  refine mm_ofW (cc := cJ5_init_3) (maxL := 5) (ret := none) (by decide) rfl (Nat.le_of_ble_eq_true rfl) ?_
  intro p e s m below meth c A ls hx hb hr hlk hml hown hmn hts htab hE hST hA hM hS hl
  replace hl : lv_has ls 5 [(0, .ref a), (1, .null), (2, .null), (3, .int 0), (4, .int 0)] := hl
  refine lv_aload_n hx hb dJ5_init_3_0 rfl (lv_at hl 0 rfl) ?_
  refine lv_aload_nN hx hb dJ5_init_3_1 rfl (lv_at hl 1 rfl) ?_
  refine lv_aload_nN hx hb dJ5_init_3_2 rfl (lv_at hl 2 rfl) ?_
  refine lv_iload_n hx hb dJ5_init_3_3 rfl (lv_at hl 3 rfl) ?_
  refine lv_iload hx hb dJ5_init_3_4 (lv_at hl 4 rfl) ?_
  refine mm_callI (As := [.null, .null, .int 0, .int 0]) (rest := []) ⟨hx, hb, hml, hown, hts⟩ hE hST hA (c_J4_init_4 l Z ha9) (cwI (maxL := 5) 4 hts (lw_meth q2546) rfl rfl rfl (hts _ q56) (hts _ q2544) (hts _ q2545) rfl (by decide +kernel) ⟨(Nat.le_of_ble_eq_true rfl), (Nat.le_of_ble_eq_true rfl)⟩) hM hS rfl hl.1 (Nat.le_of_ble_eq_true rfl) dJ5_init_3_6 rfl ⟨(Nat.le_of_ble_eq_true rfl), (Nat.le_of_ble_eq_true rfl)⟩ (fun _ _ _ _ _ _ h9 => h9.elim) (fun v_1 M_2 H locs hp_3 hM hS => ?_)
  obtain ⟨rfl, eM_2⟩ := hp_3
  rw [eM_2] at hM
  exact mm_retv hx hb hr hlk hM hS ⟨rfl, rfl⟩ dJ5_init_3_9 (Nat.le_of_ble_eq_true rfl) (Nat.le_of_ble_eq_true rfl)
set_option maxHeartbeats 4000000 in
set_option maxRecDepth 100000 in
theorem c_X26_init (l : Launch) (Z : mm_G) {M : mm_M} {a : Nat} {er : Int32} (ha9 : M a = some (.inr (21, [.null, .null, .null, .null, .null, .int 0, .int 0]))) : mm_C l Z yX26_init (ws_ yX26_init cX26_init 2 none) { frames := 4, cells := 0, slots := 0, locals := 200 } [.ref a, .int er] M (fun v M' => v = none ∧ M' = mm_U M a (.inr (21, [.null, .null, .null, .null, .null, .int 0, .int er]))) mm_nx := by
  refine mm_ofW (cc := cX26_init) (maxL := 2) (ret := none) (by decide) rfl (Nat.le_of_ble_eq_true rfl) ?_
  intro p e s m below meth c A ls hx hb hr hlk hml hown hmn hts htab hE hST hA hM hS hl
  replace hl : lv_has ls 2 [(0, .ref a), (1, .int er)] := hl
  refine lv_aload_n hx hb dX26_init_0 rfl (lv_at hl 0 rfl) ?_
  refine lv_null hx hb dX26_init_1 ?_
  refine lv_null hx hb dX26_init_2 ?_
  refine lv_iconst (v := 0) hx hb dX26_init_3 (by decide) ?_
  refine lv_iconst (v := 0) hx hb dX26_init_4 (by decide) ?_
  refine mm_callI (As := [.null, .null, .int 0, .int 0]) (rest := []) ⟨hx, hb, hml, hown, hts⟩ hE hST hA (c_J5_init_3 l Z ha9) (cwI (maxL := 5) 4 hts (lw_meth q2543) rfl rfl rfl (hts _ q57) (hts _ q2541) (hts _ q2542) rfl (by decide +kernel) ⟨(Nat.le_of_ble_eq_true rfl), (Nat.le_of_ble_eq_true rfl)⟩) hM hS rfl hl.1 (Nat.le_of_ble_eq_true rfl) dX26_init_5 rfl ⟨(Nat.le_of_ble_eq_true rfl), (Nat.le_of_ble_eq_true rfl)⟩ (fun _ _ _ _ _ _ h9 => h9.elim) (fun v_1 M_2 H locs hp_3 hM hS => ?_)
  obtain ⟨rfl, eM_2⟩ := hp_3
  rw [eM_2] at hM
  refine lv_aload_n hx hb dX26_init_8 rfl (lv_at hl 0 rfl) ?_
  refine lv_iload_n hx hb dX26_init_9 rfl (lv_at hl 1 rfl) ?_
  refine mm_putF (D := Z.1) (ci := 21) (v := .int er) (ty := .int) (C := RX26) (T := TX26) (N := 7) hx hb hts in_X26 tyX26 tyX26_ok nmX26 hown hE.1 hM hS ha9 mm_cX26 6 (by decide) (hts _ q2550) (fun _ h9 => h9) rfl hmn rfl (by decide +kernel) rfl rfl (Nat.le_of_ble_eq_true rfl) dX26_init_10 (fun H locs hM hS => ?_)
  have hM : mm_P Z.1 mm_cl A (mm_U M a (.inr (21, [.null, .null, .null, .null, .null, .int 0, .int er]))) H := hM
  have hc_4 : (mm_U M a (.inr (21, [.null, .null, .null, .null, .null, .int 0, .int er]))) a = some (.inr (21, [.null, .null, .null, .null, .null, .int 0, .int er])) := mm_U_eq
  obtain ⟨M_5, eM_5⟩ : ∃ z, z = mm_U M a (.inr (21, [.null, .null, .null, .null, .null, .int 0, .int er])) := ⟨_, rfl⟩
  rw [← eM_5] at hM hc_4
  exact mm_retv hx hb hr hlk hM hS ⟨rfl, eM_5⟩ dX26_init_13 (Nat.le_of_ble_eq_true rfl) (Nat.le_of_ble_eq_true rfl)
