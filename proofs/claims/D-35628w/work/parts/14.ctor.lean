/-! ===== the constructors of the claim's own exceptions ===== -/
set_option maxRecDepth 100000
theorem mm_zq {C n d : String} {A : Nat → Prop} {U : State} {H : Heap} (h : va_Zq C n d A U H) : ∃ r : Option Nat, va_Z C n d (va_rf r) A U H := by
  rcases h with h | ⟨t, h⟩
  · exact ⟨none, h⟩
  · exact ⟨some t, h⟩
theorem mm_isr (r : Option Nat) : (va_rf r).isRef = true := by cases r <;> rfl
theorem mm_thr : ∀ w ∈ Bundle.throwableAtoms.filter vx_no, w ∈ lw_all := lw_in _ [55, 223, 232, 241, 244, 246, 224, 225, 127, 128, 226, 231, 242, 259, 213, 260, 215, 261, 217, 227, 229, 219] (by decide +kernel) (by decide +kernel)

set_option maxHeartbeats 4000000 in
set_option maxRecDepth 100000 in
theorem c_J3_init_X20 (l : Launch) (Z : mm_G) (htr : l.stackTraces = false) {M : mm_M} {a : Nat} (ha9 : M a = some (.inr (16, [.null, .null, .null, .null, .null, .int 0, .int 0]))) : mm_CK l Z yJ3_init (ws_ yJ3_init cJ3_init 1 none) { frames := 3, cells := 0, slots := 0, locals := 60 } a [.ref a] M (fun v M' => v = none ∧ ∃ ru rs : Option Nat, M' = mm_U M a (.inr (16, [.ref a, va_rf ru, va_rf rs, .null, .null, .int 0, .int 0]))) mm_nx := by
  refine mm_ofWK (cc := cJ3_init) (maxL := 1) (ret := none) (by decide) rfl (Nat.le_of_ble_eq_true rfl) ?_
  intro p e s m below meth c A ls hx hb hr hlk hml hown hmn hts htab hE hST hA hM hS hl hFr
  replace hl : lv_has ls 1 [(0, .ref a)] := hl
  obtain ⟨ru, hzu⟩ := mm_zq hST.2.1.1
  obtain ⟨rs, hzs⟩ := mm_zq hST.2.2.1.1
  refine lv_aload_n hx hb dJ3_init_0 rfl (lv_at hl 0 rfl) ?_
  refine W.objInit hx hb hown (hts _ q226) (hts _ q127) (hts _ q128) rfl (by rw [hml]; exact hl.1) rfl dJ3_init_1 (Nat.le_of_ble_eq_true rfl) (Nat.le_of_ble_eq_true rfl) ?_
  refine W.eq (g2 := F0 m 4 ls []) rfl ?_
  refine lv_aload_n hx hb dJ3_init_4 rfl (lv_at hl 0 rfl) ?_
  refine lv_aload_n hx hb dJ3_init_5 rfl (lv_at hl 0 rfl) ?_
  refine mm_putX (D := Z.1) (ci := 16) (v := .ref a) (ty := .object "java/lang/Throwable") (C := RX20) (T := TX20) (N := 7) hx hb hts in_X20 tyX20 tyX20_ok nmX20 hown hE.1 hM hS hFr ha9 mm_cX20 0 (by decide) (hts _ q259) (fun _ h9 => h9) rfl (by decide +kernel) rfl rfl (Nat.le_of_ble_eq_true rfl) dJ3_init_6 (fun H locs hM hS hFr => ?_)
  have hM : mm_P Z.1 mm_cl A (mm_U M a (.inr (16, [.ref a, .null, .null, .null, .null, .int 0, .int 0]))) H := hM
  have hc_1 : (mm_U M a (.inr (16, [.ref a, .null, .null, .null, .null, .int 0, .int 0]))) a = some (.inr (16, [.ref a, .null, .null, .null, .null, .int 0, .int 0])) := mm_U_eq
  obtain ⟨M_2, eM_2⟩ : ∃ z, z = mm_U M a (.inr (16, [.ref a, .null, .null, .null, .null, .int 0, .int 0])) := ⟨_, rfl⟩
  rw [← eM_2] at hM hc_1
  refine lv_aload_n hx hb dJ3_init_9 rfl (lv_at hl 0 rfl) ?_
  refine va_gets hx hb hzu hS hown (hts _ q227) (fun _ h9 => h9) dJ3_init_10 ?_
  refine mm_putX (D := Z.1) (ci := 16) (v := va_rf ru) (ty := .array (.object "java/lang/StackTraceElement")) (C := RX20) (T := TX20) (N := 7) hx hb hts in_X20 tyX20 tyX20_ok nmX20 hown hE.1 hM hS hFr hc_1 mm_cX20 1 (by decide) (hts _ q260) (fun _ h9 => h9) rfl (by decide +kernel) (mm_nar_oa _ _) (mm_fit_oa _ _) (Nat.le_of_ble_eq_true rfl) dJ3_init_13 (fun H locs hM hS hFr => ?_)
  have hM : mm_P Z.1 mm_cl A (mm_U M_2 a (.inr (16, [.ref a, va_rf ru, .null, .null, .null, .int 0, .int 0]))) H := hM
  have hc_3 : (mm_U M_2 a (.inr (16, [.ref a, va_rf ru, .null, .null, .null, .int 0, .int 0]))) a = some (.inr (16, [.ref a, va_rf ru, .null, .null, .null, .int 0, .int 0])) := mm_U_eq
  obtain ⟨M_4, eM_4⟩ : ∃ z, z = mm_U M_2 a (.inr (16, [.ref a, va_rf ru, .null, .null, .null, .int 0, .int 0])) := ⟨_, rfl⟩
  rw [← eM_4] at hM hc_3
  refine lv_aload_n hx hb dJ3_init_16 rfl (lv_at hl 0 rfl) ?_
  refine va_gets hx hb hzs hS hown (hts _ q229) (fun _ h9 => h9) dJ3_init_17 ?_
  refine mm_putX (D := Z.1) (ci := 16) (v := va_rf rs) (ty := .object "java/util/List") (C := RX20) (T := TX20) (N := 7) hx hb hts in_X20 tyX20 tyX20_ok nmX20 hown hE.1 hM hS hFr hc_3 mm_cX20 2 (by decide) (hts _ q261) (fun _ h9 => h9) rfl (by decide +kernel) (mm_nar_oo _ _) (mm_fit_oo _ _) (Nat.le_of_ble_eq_true rfl) dJ3_init_20 (fun H locs hM hS hFr => ?_)
  have hM : mm_P Z.1 mm_cl A (mm_U M_4 a (.inr (16, [.ref a, va_rf ru, va_rf rs, .null, .null, .int 0, .int 0]))) H := hM
  have hc_5 : (mm_U M_4 a (.inr (16, [.ref a, va_rf ru, va_rf rs, .null, .null, .int 0, .int 0]))) a = some (.inr (16, [.ref a, va_rf ru, va_rf rs, .null, .null, .int 0, .int 0])) := mm_U_eq
  obtain ⟨M_6, eM_6⟩ : ∃ z, z = mm_U M_4 a (.inr (16, [.ref a, va_rf ru, va_rf rs, .null, .null, .int 0, .int 0])) := ⟨_, rfl⟩
  rw [← eM_6] at hM hc_5
  refine lv_aload_n hx hb dJ3_init_23 rfl (lv_at hl 0 rfl) ?_
  refine mm_fill (kS := 1) (kB := 4) (u0 := ⟨va_rf ru, mm_isr _⟩) hx hb htr (hml.trans hl.1.symm) hown hE hST hzu hM hS hFr hc_5 mm_cX20 ⟨by decide, rfl, rfl, rfl, rfl⟩ ⟨by decide, rfl, rfl, rfl, rfl⟩ (fun w hw => hts _ (mm_thr w hw)) (hts _ q1110) (hts _ q234) (hts _ q222) (hts _ q221) (hts _ q1112) (hts _ q55) (Nat.le_of_ble_eq_true rfl) (Nat.le_of_ble_eq_true rfl) dJ3_init_24 (fun H locs hM hS => ?_)
  refine lv_pop hx hb dJ3_init_27 rfl ?_
  exact mm_retv hx hb hr hlk hM hS ⟨rfl, ru, rs, by subst eM_6 eM_4 eM_2; simp only [mm_U_U]⟩ dJ3_init_28 (Nat.le_of_ble_eq_true rfl) (Nat.le_of_ble_eq_true rfl)
set_option maxHeartbeats 4000000 in
set_option maxRecDepth 100000 in
theorem c_J4_init_X20 (l : Launch) (Z : mm_G) (htr : l.stackTraces = false) {M : mm_M} {a : Nat} (ha9 : M a = some (.inr (16, [.null, .null, .null, .null, .null, .int 0, .int 0]))) : mm_CK l Z yJ4_init (ws_ yJ4_init cJ4_init 1 none) { frames := 4, cells := 0, slots := 0, locals := 100 } a [.ref a] M (fun v M' => v = none ∧ ∃ ru rs : Option Nat, M' = mm_U M a (.inr (16, [.ref a, va_rf ru, va_rf rs, .null, .null, .int 0, .int 0]))) mm_nx := by
  refine mm_ofWK (cc := cJ4_init) (maxL := 1) (ret := none) (by decide) rfl (Nat.le_of_ble_eq_true rfl) ?_
  intro p e s m below meth c A ls hx hb hr hlk hml hown hmn hts htab hE hST hA hM hS hl hFr
  replace hl : lv_has ls 1 [(0, .ref a)] := hl
  refine lv_aload_n hx hb dJ4_init_0 rfl (lv_at hl 0 rfl) ?_
  refine mm_callIK (As := []) (rest := []) ⟨hx, hb, hml, hown, hts⟩ hE hST hA hFr (c_J3_init_X20 l Z htr ha9) (cwI (maxL := 1) 0 hts (lw_meth q225) rfl rfl rfl (hts _ q55) (hts _ q256) (hts _ q224) rfl (by decide +kernel) ⟨(Nat.le_of_ble_eq_true rfl), (Nat.le_of_ble_eq_true rfl)⟩) hM hS rfl hl.1 (Nat.le_of_ble_eq_true rfl) dJ4_init_1 rfl ⟨(Nat.le_of_ble_eq_true rfl), (Nat.le_of_ble_eq_true rfl)⟩ (fun _ _ _ _ _ _ h9 => h9.elim) (fun v_1 M_2 H locs hp_3 hM hS => ?_)
  obtain ⟨rfl, ru, rs, eM_2⟩ := hp_3
  have hk_4 : M_2 a = some (.inr (16, [.ref a, va_rf ru, va_rf rs, .null, .null, .int 0, .int 0])) := by rw [eM_2]; exact mm_U_eq
  exact mm_retv hx hb hr hlk hM hS ⟨rfl, ru, rs, eM_2⟩ dJ4_init_4 (Nat.le_of_ble_eq_true rfl) (Nat.le_of_ble_eq_true rfl)
set_option maxHeartbeats 4000000 in
set_option maxRecDepth 100000 in
theorem c_J3_init_X31 (l : Launch) (Z : mm_G) (htr : l.stackTraces = false) {M : mm_M} {a : Nat} (ha9 : M a = some (.inr (26, [.null, .null, .null, .null, .null, .int 0]))) : mm_CK l Z yJ3_init (ws_ yJ3_init cJ3_init 1 none) { frames := 3, cells := 0, slots := 0, locals := 60 } a [.ref a] M (fun v M' => v = none ∧ ∃ ru rs : Option Nat, M' = mm_U M a (.inr (26, [.ref a, va_rf ru, va_rf rs, .null, .null, .int 0]))) mm_nx := by
  refine mm_ofWK (cc := cJ3_init) (maxL := 1) (ret := none) (by decide) rfl (Nat.le_of_ble_eq_true rfl) ?_
  intro p e s m below meth c A ls hx hb hr hlk hml hown hmn hts htab hE hST hA hM hS hl hFr
  replace hl : lv_has ls 1 [(0, .ref a)] := hl
  obtain ⟨ru, hzu⟩ := mm_zq hST.2.1.1
  obtain ⟨rs, hzs⟩ := mm_zq hST.2.2.1.1
  refine lv_aload_n hx hb dJ3_init_0 rfl (lv_at hl 0 rfl) ?_
  refine W.objInit hx hb hown (hts _ q226) (hts _ q127) (hts _ q128) rfl (by rw [hml]; exact hl.1) rfl dJ3_init_1 (Nat.le_of_ble_eq_true rfl) (Nat.le_of_ble_eq_true rfl) ?_
  refine W.eq (g2 := F0 m 4 ls []) rfl ?_
  refine lv_aload_n hx hb dJ3_init_4 rfl (lv_at hl 0 rfl) ?_
  refine lv_aload_n hx hb dJ3_init_5 rfl (lv_at hl 0 rfl) ?_
  refine mm_putX (D := Z.1) (ci := 26) (v := .ref a) (ty := .object "java/lang/Throwable") (C := RX31) (T := TX31) (N := 6) hx hb hts in_X31 tyX31 tyX31_ok nmX31 hown hE.1 hM hS hFr ha9 mm_cX31 0 (by decide) (hts _ q259) (fun _ h9 => h9) rfl (by decide +kernel) rfl rfl (Nat.le_of_ble_eq_true rfl) dJ3_init_6 (fun H locs hM hS hFr => ?_)
  have hM : mm_P Z.1 mm_cl A (mm_U M a (.inr (26, [.ref a, .null, .null, .null, .null, .int 0]))) H := hM
  have hc_1 : (mm_U M a (.inr (26, [.ref a, .null, .null, .null, .null, .int 0]))) a = some (.inr (26, [.ref a, .null, .null, .null, .null, .int 0])) := mm_U_eq
  obtain ⟨M_2, eM_2⟩ : ∃ z, z = mm_U M a (.inr (26, [.ref a, .null, .null, .null, .null, .int 0])) := ⟨_, rfl⟩
  rw [← eM_2] at hM hc_1
  refine lv_aload_n hx hb dJ3_init_9 rfl (lv_at hl 0 rfl) ?_
  refine va_gets hx hb hzu hS hown (hts _ q227) (fun _ h9 => h9) dJ3_init_10 ?_
  refine mm_putX (D := Z.1) (ci := 26) (v := va_rf ru) (ty := .array (.object "java/lang/StackTraceElement")) (C := RX31) (T := TX31) (N := 6) hx hb hts in_X31 tyX31 tyX31_ok nmX31 hown hE.1 hM hS hFr hc_1 mm_cX31 1 (by decide) (hts _ q260) (fun _ h9 => h9) rfl (by decide +kernel) (mm_nar_oa _ _) (mm_fit_oa _ _) (Nat.le_of_ble_eq_true rfl) dJ3_init_13 (fun H locs hM hS hFr => ?_)
  have hM : mm_P Z.1 mm_cl A (mm_U M_2 a (.inr (26, [.ref a, va_rf ru, .null, .null, .null, .int 0]))) H := hM
  have hc_3 : (mm_U M_2 a (.inr (26, [.ref a, va_rf ru, .null, .null, .null, .int 0]))) a = some (.inr (26, [.ref a, va_rf ru, .null, .null, .null, .int 0])) := mm_U_eq
  obtain ⟨M_4, eM_4⟩ : ∃ z, z = mm_U M_2 a (.inr (26, [.ref a, va_rf ru, .null, .null, .null, .int 0])) := ⟨_, rfl⟩
  rw [← eM_4] at hM hc_3
  refine lv_aload_n hx hb dJ3_init_16 rfl (lv_at hl 0 rfl) ?_
  refine va_gets hx hb hzs hS hown (hts _ q229) (fun _ h9 => h9) dJ3_init_17 ?_
  refine mm_putX (D := Z.1) (ci := 26) (v := va_rf rs) (ty := .object "java/util/List") (C := RX31) (T := TX31) (N := 6) hx hb hts in_X31 tyX31 tyX31_ok nmX31 hown hE.1 hM hS hFr hc_3 mm_cX31 2 (by decide) (hts _ q261) (fun _ h9 => h9) rfl (by decide +kernel) (mm_nar_oo _ _) (mm_fit_oo _ _) (Nat.le_of_ble_eq_true rfl) dJ3_init_20 (fun H locs hM hS hFr => ?_)
  have hM : mm_P Z.1 mm_cl A (mm_U M_4 a (.inr (26, [.ref a, va_rf ru, va_rf rs, .null, .null, .int 0]))) H := hM
  have hc_5 : (mm_U M_4 a (.inr (26, [.ref a, va_rf ru, va_rf rs, .null, .null, .int 0]))) a = some (.inr (26, [.ref a, va_rf ru, va_rf rs, .null, .null, .int 0])) := mm_U_eq
  obtain ⟨M_6, eM_6⟩ : ∃ z, z = mm_U M_4 a (.inr (26, [.ref a, va_rf ru, va_rf rs, .null, .null, .int 0])) := ⟨_, rfl⟩
  rw [← eM_6] at hM hc_5
  refine lv_aload_n hx hb dJ3_init_23 rfl (lv_at hl 0 rfl) ?_
  refine mm_fill (kS := 1) (kB := 4) (u0 := ⟨va_rf ru, mm_isr _⟩) hx hb htr (hml.trans hl.1.symm) hown hE hST hzu hM hS hFr hc_5 mm_cX31 ⟨by decide, rfl, rfl, rfl, rfl⟩ ⟨by decide, rfl, rfl, rfl, rfl⟩ (fun w hw => hts _ (mm_thr w hw)) (hts _ q1811) (hts _ q235) (hts _ q222) (hts _ q221) (hts _ q1813) (hts _ q55) (Nat.le_of_ble_eq_true rfl) (Nat.le_of_ble_eq_true rfl) dJ3_init_24 (fun H locs hM hS => ?_)
  refine lv_pop hx hb dJ3_init_27 rfl ?_
  exact mm_retv hx hb hr hlk hM hS ⟨rfl, ru, rs, by subst eM_6 eM_4 eM_2; simp only [mm_U_U]⟩ dJ3_init_28 (Nat.le_of_ble_eq_true rfl) (Nat.le_of_ble_eq_true rfl)
set_option maxHeartbeats 4000000 in
set_option maxRecDepth 100000 in
theorem c_J4_init_X31 (l : Launch) (Z : mm_G) (htr : l.stackTraces = false) {M : mm_M} {a : Nat} (ha9 : M a = some (.inr (26, [.null, .null, .null, .null, .null, .int 0]))) : mm_CK l Z yJ4_init (ws_ yJ4_init cJ4_init 1 none) { frames := 4, cells := 0, slots := 0, locals := 100 } a [.ref a] M (fun v M' => v = none ∧ ∃ ru rs : Option Nat, M' = mm_U M a (.inr (26, [.ref a, va_rf ru, va_rf rs, .null, .null, .int 0]))) mm_nx := by
  refine mm_ofWK (cc := cJ4_init) (maxL := 1) (ret := none) (by decide) rfl (Nat.le_of_ble_eq_true rfl) ?_
  intro p e s m below meth c A ls hx hb hr hlk hml hown hmn hts htab hE hST hA hM hS hl hFr
  replace hl : lv_has ls 1 [(0, .ref a)] := hl
  refine lv_aload_n hx hb dJ4_init_0 rfl (lv_at hl 0 rfl) ?_
  refine mm_callIK (As := []) (rest := []) ⟨hx, hb, hml, hown, hts⟩ hE hST hA hFr (c_J3_init_X31 l Z htr ha9) (cwI (maxL := 1) 0 hts (lw_meth q225) rfl rfl rfl (hts _ q55) (hts _ q256) (hts _ q224) rfl (by decide +kernel) ⟨(Nat.le_of_ble_eq_true rfl), (Nat.le_of_ble_eq_true rfl)⟩) hM hS rfl hl.1 (Nat.le_of_ble_eq_true rfl) dJ4_init_1 rfl ⟨(Nat.le_of_ble_eq_true rfl), (Nat.le_of_ble_eq_true rfl)⟩ (fun _ _ _ _ _ _ h9 => h9.elim) (fun v_1 M_2 H locs hp_3 hM hS => ?_)
  obtain ⟨rfl, ru, rs, eM_2⟩ := hp_3
  have hk_4 : M_2 a = some (.inr (26, [.ref a, va_rf ru, va_rf rs, .null, .null, .int 0])) := by rw [eM_2]; exact mm_U_eq
  exact mm_retv hx hb hr hlk hM hS ⟨rfl, ru, rs, eM_2⟩ dJ4_init_4 (Nat.le_of_ble_eq_true rfl) (Nat.le_of_ble_eq_true rfl)
set_option maxHeartbeats 4000000 in
set_option maxRecDepth 100000 in
theorem c_X20_init (l : Launch) (Z : mm_G) (htr : l.stackTraces = false) {M : mm_M} {a : Nat} {er : Int32} (ha9 : M a = some (.inr (16, [.null, .null, .null, .null, .null, .int 0, .int 0]))) : mm_CK l Z yX20_init (ws_ yX20_init cX20_init 2 none) { frames := 5, cells := 0, slots := 0, locals := 140 } a [.ref a, .int er] M (fun v M' => v = none ∧ ∃ ru rs : Option Nat, M' = mm_U M a (.inr (16, [.ref a, va_rf ru, va_rf rs, .null, .null, .int 0, .int er]))) mm_nx := by
  refine mm_ofWK (cc := cX20_init) (maxL := 2) (ret := none) (by decide) rfl (Nat.le_of_ble_eq_true rfl) ?_
  intro p e s m below meth c A ls hx hb hr hlk hml hown hmn hts htab hE hST hA hM hS hl hFr
  replace hl : lv_has ls 2 [(0, .ref a), (1, .int er)] := hl
  refine lv_aload_n hx hb dX20_init_0 rfl (lv_at hl 0 rfl) ?_
  refine mm_callIK (As := []) (rest := []) ⟨hx, hb, hml, hown, hts⟩ hE hST hA hFr (c_J4_init_X20 l Z htr ha9) (cwI (maxL := 1) 0 hts (lw_meth q255) rfl rfl rfl (hts _ q56) (hts _ q1119) (hts _ q254) rfl (by decide +kernel) ⟨(Nat.le_of_ble_eq_true rfl), (Nat.le_of_ble_eq_true rfl)⟩) hM hS rfl hl.1 (Nat.le_of_ble_eq_true rfl) dX20_init_1 rfl ⟨(Nat.le_of_ble_eq_true rfl), (Nat.le_of_ble_eq_true rfl)⟩ (fun _ _ _ _ _ _ h9 => h9.elim) (fun v_1 M_2 H locs hp_3 hM hS => ?_)
  obtain ⟨rfl, ru, rs, eM_2⟩ := hp_3
  have hk_4 : M_2 a = some (.inr (16, [.ref a, va_rf ru, va_rf rs, .null, .null, .int 0, .int 0])) := by rw [eM_2]; exact mm_U_eq
  refine lv_aload_n hx hb dX20_init_4 rfl (lv_at hl 0 rfl) ?_
  refine lv_iload_n hx hb dX20_init_5 rfl (lv_at hl 1 rfl) ?_
  refine mm_putF (D := Z.1) (ci := 16) (v := .int er) (ty := .int) (C := RX20) (T := TX20) (N := 7) hx hb hts in_X20 tyX20 tyX20_ok nmX20 hown hE.1 hM hS hk_4 mm_cX20 6 (by decide) (hts _ q1120) (fun _ h9 => h9) rfl hmn rfl (by decide +kernel) rfl rfl (Nat.le_of_ble_eq_true rfl) dX20_init_6 (fun H locs hM hS => ?_)
  have hM : mm_P Z.1 mm_cl A (mm_U M_2 a (.inr (16, [.ref a, va_rf ru, va_rf rs, .null, .null, .int 0, .int er]))) H := hM
  have hc_5 : (mm_U M_2 a (.inr (16, [.ref a, va_rf ru, va_rf rs, .null, .null, .int 0, .int er]))) a = some (.inr (16, [.ref a, va_rf ru, va_rf rs, .null, .null, .int 0, .int er])) := mm_U_eq
  obtain ⟨M_6, eM_6⟩ : ∃ z, z = mm_U M_2 a (.inr (16, [.ref a, va_rf ru, va_rf rs, .null, .null, .int 0, .int er])) := ⟨_, rfl⟩
  rw [← eM_6] at hM hc_5
  exact mm_retv hx hb hr hlk hM hS ⟨rfl, ru, rs, by rw [eM_6, eM_2, mm_U_U]⟩ dX20_init_9 (Nat.le_of_ble_eq_true rfl) (Nat.le_of_ble_eq_true rfl)
set_option maxHeartbeats 4000000 in
set_option maxRecDepth 100000 in
theorem c_X31_init (l : Launch) (Z : mm_G) (htr : l.stackTraces = false) {M : mm_M} {a : Nat} (ha9 : M a = some (.inr (26, [.null, .null, .null, .null, .null, .int 0]))) : mm_CK l Z yX31_init (ws_ yX31_init cX31_init 1 none) { frames := 5, cells := 0, slots := 0, locals := 140 } a [.ref a] M (fun v M' => v = none ∧ ∃ ru rs : Option Nat, M' = mm_U M a (.inr (26, [.ref a, va_rf ru, va_rf rs, .null, .null, .int 0]))) mm_nx := by
  refine mm_ofWK (cc := cX31_init) (maxL := 1) (ret := none) (by decide) rfl (Nat.le_of_ble_eq_true rfl) ?_
  intro p e s m below meth c A ls hx hb hr hlk hml hown hmn hts htab hE hST hA hM hS hl hFr
  replace hl : lv_has ls 1 [(0, .ref a)] := hl
  refine lv_aload_n hx hb dX31_init_0 rfl (lv_at hl 0 rfl) ?_
  refine mm_callIK (As := []) (rest := []) ⟨hx, hb, hml, hown, hts⟩ hE hST hA hFr (c_J4_init_X31 l Z htr ha9) (cwI (maxL := 1) 0 hts (lw_meth q255) rfl rfl rfl (hts _ q56) (hts _ q1820) (hts _ q254) rfl (by decide +kernel) ⟨(Nat.le_of_ble_eq_true rfl), (Nat.le_of_ble_eq_true rfl)⟩) hM hS rfl hl.1 (Nat.le_of_ble_eq_true rfl) dX31_init_1 rfl ⟨(Nat.le_of_ble_eq_true rfl), (Nat.le_of_ble_eq_true rfl)⟩ (fun _ _ _ _ _ _ h9 => h9.elim) (fun v_1 M_2 H locs hp_3 hM hS => ?_)
  obtain ⟨rfl, ru, rs, eM_2⟩ := hp_3
  have hk_4 : M_2 a = some (.inr (26, [.ref a, va_rf ru, va_rf rs, .null, .null, .int 0])) := by rw [eM_2]; exact mm_U_eq
  exact mm_retv hx hb hr hlk hM hS ⟨rfl, ru, rs, eM_2⟩ dX31_init_4 (Nat.le_of_ble_eq_true rfl) (Nat.le_of_ble_eq_true rfl)
set_option maxHeartbeats 4000000 in
set_option maxRecDepth 100000 in
theorem c_J3_init_3 (l : Launch) (Z : mm_G) (htr : l.stackTraces = false) {M : mm_M} {a : Nat} {rc : Option Nat} (ha9 : M a = some (.inr (7, [.null, .null, .null, .null, .null, .int 0, .int 0, .null]))) : mm_CK l Z yJ3_init_3 (ws_ yJ3_init_3 cJ3_init_3 3 none) { frames := 3, cells := 0, slots := 0, locals := 60 } a [.ref a, .null, va_rf rc] M (fun v M' => v = none ∧ ∃ ru rs : Option Nat, M' = mm_U M a (.inr (7, [va_rf rc, va_rf ru, va_rf rs, .null, .null, .int 0, .int 0, .null]))) mm_nx := by
  refine mm_ofWK (cc := cJ3_init_3) (maxL := 3) (ret := none) (by decide) rfl (by simp [lg_sl, mm_cat_o, mm_cat_r, mm_cat_i, mm_cat_l, mm_cat_n]) ?_
  intro p e s m below meth c A ls hx hb hr hlk hml hown hmn hts htab hE hST hA hM hS hl hFr
  replace hl : lv_has ls 3 [(0, .ref a), (1, .null), (2, va_rf rc)] := by simpa [lv_args, mm_cat_o, mm_cat_r, mm_cat_i, mm_cat_l, mm_cat_n] using hl
  obtain ⟨ru, hzu⟩ := mm_zq hST.2.1.1
  obtain ⟨rs, hzs⟩ := mm_zq hST.2.2.1.1
  refine lv_aload_n hx hb dJ3_init_3_0 rfl (lv_at hl 0 rfl) ?_
  refine W.objInit hx hb hown (hts _ q226) (hts _ q127) (hts _ q128) rfl (by rw [hml]; exact hl.1) rfl dJ3_init_3_1 (Nat.le_of_ble_eq_true rfl) (Nat.le_of_ble_eq_true rfl) ?_
  refine W.eq (g2 := F0 m 4 ls []) rfl ?_
  refine lv_aload_n hx hb dJ3_init_3_4 rfl (lv_at hl 0 rfl) ?_
  refine lv_aload_n hx hb dJ3_init_3_5 rfl (lv_at hl 0 rfl) ?_
  refine mm_putX (D := Z.1) (ci := 7) (v := .ref a) (ty := .object "java/lang/Throwable") (C := RX9) (T := TX9) (N := 8) hx hb hts in_X9 tyX9 tyX9_ok nmX9 hown hE.1 hM hS hFr ha9 mm_cX9 0 (by decide) (hts _ q259) (fun _ h9 => h9) rfl (by decide +kernel) rfl rfl (Nat.le_of_ble_eq_true rfl) dJ3_init_3_6 (fun H locs hM hS hFr => ?_)
  have hM : mm_P Z.1 mm_cl A (mm_U M a (.inr (7, [.ref a, .null, .null, .null, .null, .int 0, .int 0, .null]))) H := hM
  have hc_1 : (mm_U M a (.inr (7, [.ref a, .null, .null, .null, .null, .int 0, .int 0, .null]))) a = some (.inr (7, [.ref a, .null, .null, .null, .null, .int 0, .int 0, .null])) := mm_U_eq
  obtain ⟨M_2, eM_2⟩ : ∃ z, z = mm_U M a (.inr (7, [.ref a, .null, .null, .null, .null, .int 0, .int 0, .null])) := ⟨_, rfl⟩
  rw [← eM_2] at hM hc_1
  refine lv_aload_n hx hb dJ3_init_3_9 rfl (lv_at hl 0 rfl) ?_
  refine va_gets hx hb hzu hS hown (hts _ q227) (fun _ h9 => h9) dJ3_init_3_10 ?_
  refine mm_putX (D := Z.1) (ci := 7) (v := va_rf ru) (ty := .array (.object "java/lang/StackTraceElement")) (C := RX9) (T := TX9) (N := 8) hx hb hts in_X9 tyX9 tyX9_ok nmX9 hown hE.1 hM hS hFr hc_1 mm_cX9 1 (by decide) (hts _ q260) (fun _ h9 => h9) rfl (by decide +kernel) (mm_nar_oa _ _) (mm_fit_oa _ _) (Nat.le_of_ble_eq_true rfl) dJ3_init_3_13 (fun H locs hM hS hFr => ?_)
  have hM : mm_P Z.1 mm_cl A (mm_U M_2 a (.inr (7, [.ref a, va_rf ru, .null, .null, .null, .int 0, .int 0, .null]))) H := hM
  have hc_3 : (mm_U M_2 a (.inr (7, [.ref a, va_rf ru, .null, .null, .null, .int 0, .int 0, .null]))) a = some (.inr (7, [.ref a, va_rf ru, .null, .null, .null, .int 0, .int 0, .null])) := mm_U_eq
  obtain ⟨M_4, eM_4⟩ : ∃ z, z = mm_U M_2 a (.inr (7, [.ref a, va_rf ru, .null, .null, .null, .int 0, .int 0, .null])) := ⟨_, rfl⟩
  rw [← eM_4] at hM hc_3
  refine lv_aload_n hx hb dJ3_init_3_16 rfl (lv_at hl 0 rfl) ?_
  refine va_gets hx hb hzs hS hown (hts _ q229) (fun _ h9 => h9) dJ3_init_3_17 ?_
  refine mm_putX (D := Z.1) (ci := 7) (v := va_rf rs) (ty := .object "java/util/List") (C := RX9) (T := TX9) (N := 8) hx hb hts in_X9 tyX9 tyX9_ok nmX9 hown hE.1 hM hS hFr hc_3 mm_cX9 2 (by decide) (hts _ q261) (fun _ h9 => h9) rfl (by decide +kernel) (mm_nar_oo _ _) (mm_fit_oo _ _) (Nat.le_of_ble_eq_true rfl) dJ3_init_3_20 (fun H locs hM hS hFr => ?_)
  have hM : mm_P Z.1 mm_cl A (mm_U M_4 a (.inr (7, [.ref a, va_rf ru, va_rf rs, .null, .null, .int 0, .int 0, .null]))) H := hM
  have hc_5 : (mm_U M_4 a (.inr (7, [.ref a, va_rf ru, va_rf rs, .null, .null, .int 0, .int 0, .null]))) a = some (.inr (7, [.ref a, va_rf ru, va_rf rs, .null, .null, .int 0, .int 0, .null])) := mm_U_eq
  obtain ⟨M_6, eM_6⟩ : ∃ z, z = mm_U M_4 a (.inr (7, [.ref a, va_rf ru, va_rf rs, .null, .null, .int 0, .int 0, .null])) := ⟨_, rfl⟩
  rw [← eM_6] at hM hc_5
  refine lv_aload_n hx hb dJ3_init_3_23 rfl (lv_at hl 0 rfl) ?_
  refine mm_fill (kS := 1) (kB := 4) (u0 := ⟨va_rf ru, mm_isr _⟩) hx hb htr (hml.trans hl.1.symm) hown hE hST hzu hM hS hFr hc_5 mm_cX9 ⟨by decide, rfl, rfl, rfl, rfl⟩ ⟨by decide, rfl, rfl, rfl, rfl⟩ (fun w hw => hts _ (mm_thr w hw)) (hts _ q651) (hts _ q236) (hts _ q222) (hts _ q221) (hts _ q653) (hts _ q55) (Nat.le_of_ble_eq_true rfl) (Nat.le_of_ble_eq_true rfl) dJ3_init_3_24 (fun H locs hM hS => ?_)
  refine lv_pop hx hb dJ3_init_3_27 rfl ?_
  refine lv_aload_n hx hb dJ3_init_3_28 rfl (lv_at hl 0 rfl) ?_
  refine lv_aload_nN hx hb dJ3_init_3_29 rfl (lv_at hl 1 rfl) ?_
  refine mm_put (D := Z.1) (ci := 7) (v := .null) (ty := .object "java/lang/String") (C := RX9) (T := TX9) (N := 8) hx hb hts in_X9 tyX9 tyX9_ok nmX9 hown hE.1 hM hS hc_5 mm_cX9 3 (by decide) (hts _ q258) (fun _ h9 => h9) rfl (by decide +kernel) rfl rfl (Nat.le_of_ble_eq_true rfl) dJ3_init_3_30 (fun H locs hM hS => ?_)
  have hM : mm_P Z.1 mm_cl A (mm_U M_6 a (.inr (7, [.ref a, va_rf ru, va_rf rs, .null, .null, .int 0, .int 0, .null]))) H := hM
  have hc_7 : (mm_U M_6 a (.inr (7, [.ref a, va_rf ru, va_rf rs, .null, .null, .int 0, .int 0, .null]))) a = some (.inr (7, [.ref a, va_rf ru, va_rf rs, .null, .null, .int 0, .int 0, .null])) := mm_U_eq
  obtain ⟨M_8, eM_8⟩ : ∃ z, z = mm_U M_6 a (.inr (7, [.ref a, va_rf ru, va_rf rs, .null, .null, .int 0, .int 0, .null])) := ⟨_, rfl⟩
  rw [← eM_8] at hM hc_7
  refine lv_aload_n hx hb dJ3_init_3_33 rfl (lv_at hl 0 rfl) ?_
  refine mm_aload_n hx hb dJ3_init_3_34 rfl (lv_at hl 2 rfl) ?_
  refine mm_put (D := Z.1) (ci := 7) (v := va_rf rc) (ty := .object "java/lang/Throwable") (C := RX9) (T := TX9) (N := 8) hx hb hts in_X9 tyX9 tyX9_ok nmX9 hown hE.1 hM hS hc_7 mm_cX9 0 (by decide) (hts _ q259) (fun _ h9 => h9) rfl (by decide +kernel) (mm_nar_oo _ _) (mm_fit_oo _ _) (Nat.le_of_ble_eq_true rfl) dJ3_init_3_35 (fun H locs hM hS => ?_)
  have hM : mm_P Z.1 mm_cl A (mm_U M_8 a (.inr (7, [va_rf rc, va_rf ru, va_rf rs, .null, .null, .int 0, .int 0, .null]))) H := hM
  have hc_9 : (mm_U M_8 a (.inr (7, [va_rf rc, va_rf ru, va_rf rs, .null, .null, .int 0, .int 0, .null]))) a = some (.inr (7, [va_rf rc, va_rf ru, va_rf rs, .null, .null, .int 0, .int 0, .null])) := mm_U_eq
  obtain ⟨M_10, eM_10⟩ : ∃ z, z = mm_U M_8 a (.inr (7, [va_rf rc, va_rf ru, va_rf rs, .null, .null, .int 0, .int 0, .null])) := ⟨_, rfl⟩
  rw [← eM_10] at hM hc_9
  exact mm_retv hx hb hr hlk hM hS ⟨rfl, ru, rs, by subst eM_10 eM_8 eM_6 eM_4 eM_2; simp only [mm_U_U]⟩ dJ3_init_3_38 (Nat.le_of_ble_eq_true rfl) (Nat.le_of_ble_eq_true rfl)
set_option maxHeartbeats 4000000 in
set_option maxRecDepth 100000 in
theorem c_J4_init_3 (l : Launch) (Z : mm_G) (htr : l.stackTraces = false) {M : mm_M} {a : Nat} {rc : Option Nat} (ha9 : M a = some (.inr (7, [.null, .null, .null, .null, .null, .int 0, .int 0, .null]))) : mm_CK l Z yJ4_init_3 (ws_ yJ4_init_3 cJ4_init_3 3 none) { frames := 4, cells := 0, slots := 0, locals := 100 } a [.ref a, .null, va_rf rc] M (fun v M' => v = none ∧ ∃ ru rs : Option Nat, M' = mm_U M a (.inr (7, [va_rf rc, va_rf ru, va_rf rs, .null, .null, .int 0, .int 0, .null]))) mm_nx := by
  refine mm_ofWK (cc := cJ4_init_3) (maxL := 3) (ret := none) (by decide) rfl (by simp [lg_sl, mm_cat_o, mm_cat_r, mm_cat_i, mm_cat_l, mm_cat_n]) ?_
  intro p e s m below meth c A ls hx hb hr hlk hml hown hmn hts htab hE hST hA hM hS hl hFr
  replace hl : lv_has ls 3 [(0, .ref a), (1, .null), (2, va_rf rc)] := by simpa [lv_args, mm_cat_o, mm_cat_r, mm_cat_i, mm_cat_l, mm_cat_n] using hl
  refine lv_aload_n hx hb dJ4_init_3_0 rfl (lv_at hl 0 rfl) ?_
  refine lv_aload_nN hx hb dJ4_init_3_1 rfl (lv_at hl 1 rfl) ?_
  refine mm_aload_n hx hb dJ4_init_3_2 rfl (lv_at hl 2 rfl) ?_
  refine mm_callIK (As := [.null, va_rf rc]) (rest := []) ⟨hx, hb, hml, hown, hts⟩ hE hST hA hFr (c_J3_init_3 l Z htr (rc := rc) ha9) (cwI (maxL := 3) 2 hts (lw_meth q665) rfl rfl rfl (hts _ q55) (hts _ q663) (hts _ q664) rfl (by decide +kernel) ⟨(Nat.le_of_ble_eq_true rfl), (Nat.le_of_ble_eq_true rfl)⟩) hM hS rfl hl.1 (Nat.le_of_ble_eq_true rfl) dJ4_init_3_3 rfl ⟨(Nat.le_of_ble_eq_true rfl), (Nat.le_of_ble_eq_true rfl)⟩ (fun _ _ _ _ _ _ h9 => h9.elim) (fun v_1 M_2 H locs hp_3 hM hS => ?_)
  obtain ⟨rfl, ru, rs, eM_2⟩ := hp_3
  have hk_4 : M_2 a = some (.inr (7, [va_rf rc, va_rf ru, va_rf rs, .null, .null, .int 0, .int 0, .null])) := by rw [eM_2]; exact mm_U_eq
  exact mm_retv hx hb hr hlk hM hS ⟨rfl, ru, rs, eM_2⟩ dJ4_init_3_6 (Nat.le_of_ble_eq_true rfl) (Nat.le_of_ble_eq_true rfl)
set_option maxHeartbeats 4000000 in
set_option maxRecDepth 100000 in
theorem c_X9_init (l : Launch) (Z : mm_G) (htr : l.stackTraces = false) {M : mm_M} {a : Nat} {er : Int32} {te rc : Option Nat} (ha9 : M a = some (.inr (7, [.null, .null, .null, .null, .null, .int 0, .int 0, .null]))) : mm_CK l Z yX9_init (ws_ yX9_init cX9_init 4 none) { frames := 5, cells := 0, slots := 0, locals := 140 } a [.ref a, .int er, va_rf te, va_rf rc] M (fun v M' => v = none ∧ ∃ ru rs : Option Nat, M' = mm_U M a (.inr (7, [va_rf rc, va_rf ru, va_rf rs, .null, .null, .int 0, .int er, va_rf te]))) mm_nx := by
  refine mm_ofWK (cc := cX9_init) (maxL := 4) (ret := none) (by decide) rfl (by simp [lg_sl, mm_cat_o, mm_cat_r, mm_cat_i, mm_cat_l, mm_cat_n]) ?_
  intro p e s m below meth c A ls hx hb hr hlk hml hown hmn hts htab hE hST hA hM hS hl hFr
  replace hl : lv_has ls 4 [(0, .ref a), (1, .int er), (2, va_rf te), (3, va_rf rc)] := by simpa [lv_args, mm_cat_o, mm_cat_r, mm_cat_i, mm_cat_l, mm_cat_n] using hl
  refine lv_aload_n hx hb dX9_init_0 rfl (lv_at hl 0 rfl) ?_
  refine lv_null hx hb dX9_init_1 ?_
  refine mm_aload_n hx hb dX9_init_2 rfl (lv_at hl 3 rfl) ?_
  refine mm_callIK (As := [.null, va_rf rc]) (rest := []) ⟨hx, hb, hml, hown, hts⟩ hE hST hA hFr (c_J4_init_3 l Z htr (rc := rc) ha9) (cwI (maxL := 3) 2 hts (lw_meth q662) rfl rfl rfl (hts _ q56) (hts _ q660) (hts _ q661) rfl (by decide +kernel) ⟨(Nat.le_of_ble_eq_true rfl), (Nat.le_of_ble_eq_true rfl)⟩) hM hS rfl hl.1 (Nat.le_of_ble_eq_true rfl) dX9_init_3 rfl ⟨(Nat.le_of_ble_eq_true rfl), (Nat.le_of_ble_eq_true rfl)⟩ (fun _ _ _ _ _ _ h9 => h9.elim) (fun v_1 M_2 H locs hp_3 hM hS => ?_)
  obtain ⟨rfl, ru, rs, eM_2⟩ := hp_3
  have hk_4 : M_2 a = some (.inr (7, [va_rf rc, va_rf ru, va_rf rs, .null, .null, .int 0, .int 0, .null])) := by rw [eM_2]; exact mm_U_eq
  refine lv_aload_n hx hb dX9_init_6 rfl (lv_at hl 0 rfl) ?_
  refine lv_iload_n hx hb dX9_init_7 rfl (lv_at hl 1 rfl) ?_
  refine mm_putF (D := Z.1) (ci := 7) (v := .int er) (ty := .int) (C := RX9) (T := TX9) (N := 8) hx hb hts in_X9 tyX9 tyX9_ok nmX9 hown hE.1 hM hS hk_4 mm_cX9 6 (by decide) (hts _ q666) (fun _ h9 => h9) rfl hmn rfl (by decide +kernel) rfl rfl (Nat.le_of_ble_eq_true rfl) dX9_init_8 (fun H locs hM hS => ?_)
  have hM : mm_P Z.1 mm_cl A (mm_U M_2 a (.inr (7, [va_rf rc, va_rf ru, va_rf rs, .null, .null, .int 0, .int er, .null]))) H := hM
  have hc_5 : (mm_U M_2 a (.inr (7, [va_rf rc, va_rf ru, va_rf rs, .null, .null, .int 0, .int er, .null]))) a = some (.inr (7, [va_rf rc, va_rf ru, va_rf rs, .null, .null, .int 0, .int er, .null])) := mm_U_eq
  obtain ⟨M_6, eM_6⟩ : ∃ z, z = mm_U M_2 a (.inr (7, [va_rf rc, va_rf ru, va_rf rs, .null, .null, .int 0, .int er, .null])) := ⟨_, rfl⟩
  rw [← eM_6] at hM hc_5
  refine lv_aload_n hx hb dX9_init_11 rfl (lv_at hl 0 rfl) ?_
  refine mm_aload_n hx hb dX9_init_12 rfl (lv_at hl 2 rfl) ?_
  refine mm_putF (D := Z.1) (ci := 7) (v := va_rf te) (ty := .object "RowenTongue$Term") (C := RX9) (T := TX9) (N := 8) hx hb hts in_X9 tyX9 tyX9_ok nmX9 hown hE.1 hM hS hc_5 mm_cX9 7 (by decide) (hts _ q668) (fun _ h9 => h9) rfl hmn rfl (by decide +kernel) (mm_nar_oo _ _) (mm_fit_oo _ _) (Nat.le_of_ble_eq_true rfl) dX9_init_13 (fun H locs hM hS => ?_)
  have hM : mm_P Z.1 mm_cl A (mm_U M_6 a (.inr (7, [va_rf rc, va_rf ru, va_rf rs, .null, .null, .int 0, .int er, va_rf te]))) H := hM
  have hc_7 : (mm_U M_6 a (.inr (7, [va_rf rc, va_rf ru, va_rf rs, .null, .null, .int 0, .int er, va_rf te]))) a = some (.inr (7, [va_rf rc, va_rf ru, va_rf rs, .null, .null, .int 0, .int er, va_rf te])) := mm_U_eq
  obtain ⟨M_8, eM_8⟩ : ∃ z, z = mm_U M_6 a (.inr (7, [va_rf rc, va_rf ru, va_rf rs, .null, .null, .int 0, .int er, va_rf te])) := ⟨_, rfl⟩
  rw [← eM_8] at hM hc_7
  exact mm_retv hx hb hr hlk hM hS ⟨rfl, ru, rs, by rw [eM_8, eM_6, eM_2]; simp only [mm_U_U]⟩ dX9_init_16 (Nat.le_of_ble_eq_true rfl) (Nat.le_of_ble_eq_true rfl)
