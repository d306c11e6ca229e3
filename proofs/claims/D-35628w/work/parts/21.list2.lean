/-! ===== java.util.ArrayList: get, set, isEmpty ===== -/
set_option maxRecDepth 100000
set_option maxHeartbeats 4000000 in
set_option maxRecDepth 100000 in
theorem c_J15_checkIndex (l : Launch) (Z : mm_G) {M : mm_M} {i n : Nat} (hi : i < n) (hn : n < 2 ^ 31) : mm_C l Z yJ15_checkIndex (ws_ yJ15_checkIndex cJ15_checkIndex 3 (some .int)) { frames := 0, cells := 0, slots := 0, locals := 0 } [.int (nI i), .int (nI n), .null] M (fun v M' => v = some (.int (nI i)) ∧ M' = M) mm_nx := by
  refine mm_ofW (cc := cJ15_checkIndex) (maxL := 3) (ret := (some .int)) (by decide) rfl (Nat.le_of_ble_eq_true rfl) ?_
  intro p e s m below meth c A ls hx hb hr hlk hml hown hmn hts htab hE hST hA hM hS hl
  have hl : lv_has ls 3 [(0, .int (nI i)), (1, .int (nI n)), (2, .null)] := hl
  refine lv_iload_n hx hb dJ15_checkIndex_0 rfl (lv_at hl 0 rfl) ?_
  refine lv_if_lt (tgt := 9) hx hb dJ15_checkIndex_1 (by decide) (fun c_1 => ?_) (fun c_1 => ?_)
  · exact absurd c_1 (nI_pos (by omega))
  · skip
    refine lv_iload_n hx hb dJ15_checkIndex_4 rfl (lv_at hl 0 rfl) ?_
    refine lv_iload_n hx hb dJ15_checkIndex_5 rfl (lv_at hl 1 rfl) ?_
    refine lv_icmp_lt (tgt := 16) hx hb dJ15_checkIndex_6 (by decide) (fun c_2 => ?_) (fun c_2 => ?_)
    · skip
      refine lv_iload_n hx hb dJ15_checkIndex_16 rfl (lv_at hl 0 rfl) ?_
      exact mm_reti hx hb hr hlk hM hS ⟨rfl, rfl⟩ dJ15_checkIndex_17 (Nat.le_of_ble_eq_true rfl) (Nat.le_of_ble_eq_true rfl)
    · exact absurd ((nI_ltI (by omega) (by omega)).2 hi) c_2
set_option maxHeartbeats 4000000 in
set_option maxRecDepth 100000 in
theorem c_J14_checkIndex (l : Launch) (Z : mm_G) {M : mm_M} {i n : Nat} (hi : i < n) (hn : n < 2 ^ 31) : mm_C l Z yJ14_checkIndex (ws_ yJ14_checkIndex cJ14_checkIndex 2 (some .int)) { frames := 1, cells := 0, slots := 0, locals := 22 } [.int (nI i), .int (nI n)] M (fun v M' => v = some (.int (nI i)) ∧ M' = M) mm_nx := by
  refine mm_ofW (cc := cJ14_checkIndex) (maxL := 2) (ret := (some .int)) (by decide) rfl (Nat.le_of_ble_eq_true rfl) ?_
  intro p e s m below meth c A ls hx hb hr hlk hml hown hmn hts htab hE hST hA hM hS hl
  have hl : lv_has ls 2 [(0, .int (nI i)), (1, .int (nI n))] := hl
  refine lv_iload_n hx hb dJ14_checkIndex_0 rfl (lv_at hl 0 rfl) ?_
  refine lv_iload_n hx hb dJ14_checkIndex_1 rfl (lv_at hl 1 rfl) ?_
  refine lv_null hx hb dJ14_checkIndex_2 ?_
  refine mm_callS (As := [.int (nI i), .int (nI n), .null]) (rest := []) ⟨hx, hb, hml, hown, hts⟩ hE hST hA (c_J15_checkIndex l Z hi hn) (va_cwS 3 hts (lw_S q506 q507 q69 q508) rfl rfl rfl (by decide +kernel) ⟨(Nat.le_of_ble_eq_true rfl), (Nat.le_of_ble_eq_true rfl)⟩) hM hS rfl hl.1 (Nat.le_of_ble_eq_true rfl) dJ14_checkIndex_3 rfl ⟨(Nat.le_of_ble_eq_true rfl), (Nat.le_of_ble_eq_true rfl)⟩ (fun _ _ _ _ _ _ h9 => h9.elim) (fun v_1 M_2 H locs hp_3 hM hS => ?_)
  obtain ⟨rfl, eM_2⟩ := hp_3
  rw [eM_2] at hM
  exact mm_reti hx hb hr hlk hM hS ⟨rfl, rfl⟩ dJ14_checkIndex_6 (Nat.le_of_ble_eq_true rfl) (Nat.le_of_ble_eq_true rfl)
set_option maxHeartbeats 4000000 in
set_option maxRecDepth 100000 in
theorem c_J2_elementData (l : Launch) (Z : mm_G) {M : mm_M} {a ar cap i : Nat} {xs : List (Option Nat)} (hA9 : AL Z M a ar cap xs) (hi : i < xs.length) : mm_C l Z yJ2_elementData (ws_ yJ2_elementData cJ2_elementData 2 (some (.object "java/lang/Object"))) { frames := 0, cells := 0, slots := 0, locals := 0 } [.ref a, .int (nI i)] M (fun v M' => (∃ r : Option Nat, xs[i]? = some r ∧ v = some (va_rf r)) ∧ M' = M) mm_nx := by
  refine mm_ofW (cc := cJ2_elementData) (maxL := 2) (ret := (some (.object "java/lang/Object"))) (by decide) rfl (Nat.le_of_ble_eq_true rfl) ?_
  intro p e s m below meth c A ls hx hb hr hlk hml hown hmn hts htab hE hST hA hM hS hl
  have hl : lv_has ls 2 [(0, .ref a), (1, .int (nI i))] := hl
  obtain ⟨md, f, ha, har, hl1, hcap, h0, hf⟩ := hA9
  refine lv_aload_n hx hb dJ2_elementData_0 rfl (lv_at hl 0 rfl) ?_
  refine va_get (D := Z.1) (ci := 41) (v := .ref ar) (C := RJ2) (T := TJ2) (N := 3) hx hb hts in_J2 hown hE.1 (hM.at ha) 0 rfl mm_cJ2 1 (by decide) (hts _ q143) (fun _ h9 => h9) rfl dJ2_elementData_1 ?_
  refine lv_iload_n hx hb dJ2_elementData_4 rfl (lv_at hl 1 rfl) ?_
  refine mm_aald (k := i) hx hb hE hM 3 har rfl rfl (by omega) (by omega) dJ2_elementData_5 ?_
  exact mm_reta hx hb hr (Or.inl ⟨_, rfl⟩) (mm_rf_or _) hlk hM hS ⟨⟨_, hf i hi, rfl⟩, rfl⟩ dJ2_elementData_6 (Nat.le_of_ble_eq_true rfl) (Nat.le_of_ble_eq_true rfl)
set_option maxHeartbeats 4000000 in
set_option maxRecDepth 100000 in
theorem c_J2_get (l : Launch) (Z : mm_G) {M : mm_M} {a ar cap i : Nat} {xs : List (Option Nat)} (hA9 : AL Z M a ar cap xs) (hi : i < xs.length) : mm_C l Z yJ2_get (ws_ yJ2_get cJ2_get 2 (some (.object "java/lang/Object"))) { frames := 2, cells := 0, slots := 0, locals := 60 } [.ref a, .int (nI i)] M (fun v M' => (∃ r : Option Nat, xs[i]? = some r ∧ v = some (va_rf r)) ∧ M' = M) mm_nx := by
  refine mm_ofW (cc := cJ2_get) (maxL := 2) (ret := (some (.object "java/lang/Object"))) (by decide) rfl (Nat.le_of_ble_eq_true rfl) ?_
  intro p e s m below meth c A ls hx hb hr hlk hml hown hmn hts htab hE hST hA hM hS hl
  have hl : lv_has ls 2 [(0, .ref a), (1, .int (nI i))] := hl
  have hA8 := hA9
  obtain ⟨md, f, ha, har, hl1, hcap, h0, hf⟩ := hA9
  refine lv_iload_n hx hb dJ2_get_0 rfl (lv_at hl 1 rfl) ?_
  refine lv_aload_n hx hb dJ2_get_1 rfl (lv_at hl 0 rfl) ?_
  refine va_get (D := Z.1) (ci := 41) (v := .int (nI xs.length)) (C := RJ2) (T := TJ2) (N := 3) hx hb hts in_J2 hown hE.1 (hM.at ha) 0 rfl mm_cJ2 2 (by decide) (hts _ q146) (fun _ h9 => h9) rfl dJ2_get_2 ?_
  refine mm_callS (As := [.int (nI i), .int (nI xs.length)]) (rest := []) ⟨hx, hb, hml, hown, hts⟩ hE hST hA (c_J14_checkIndex l Z hi (by omega)) (va_cwS 2 hts (lw_S q503 q504 q68 q505) rfl rfl rfl (by decide +kernel) ⟨(Nat.le_of_ble_eq_true rfl), (Nat.le_of_ble_eq_true rfl)⟩) hM hS rfl hl.1 (Nat.le_of_ble_eq_true rfl) dJ2_get_5 rfl ⟨(Nat.le_of_ble_eq_true rfl), (Nat.le_of_ble_eq_true rfl)⟩ (fun _ _ _ _ _ _ h9 => h9.elim) (fun v_1 M_2 H locs hp_3 hM hS => ?_)
  obtain ⟨rfl, eM_2⟩ := hp_3
  rw [eM_2] at hM
  refine lv_pop hx hb dJ2_get_8 rfl ?_
  refine lv_aload_n hx hb dJ2_get_9 rfl (lv_at hl 0 rfl) ?_
  refine lv_iload_n hx hb dJ2_get_10 rfl (lv_at hl 1 rfl) ?_
  refine mm_callV (As := [.int (nI i)]) (rest := []) ⟨hx, hb, hml, hown, hts⟩ hE hST hA (c_J2_elementData l Z hA8 hi) (cwV 1 hts (lw_V q509 q510 q511 q53 q512) rfl rfl rfl (by decide +kernel) ⟨(Nat.le_of_ble_eq_true rfl), (Nat.le_of_ble_eq_true rfl)⟩) hM hS mm_cJ2 ha rfl hl.1 (Nat.le_of_ble_eq_true rfl) dJ2_get_11 rfl ⟨(Nat.le_of_ble_eq_true rfl), (Nat.le_of_ble_eq_true rfl)⟩ (fun _ _ _ _ _ _ h9 => h9.elim) (fun v_4 M_5 H locs hp_6 hM hS => ?_)
  obtain ⟨⟨r9, hr9, rfl⟩, eM_5⟩ := hp_6
  rw [eM_5] at hM
  exact mm_reta hx hb hr (Or.inl ⟨_, rfl⟩) (mm_rf_or _) hlk hM hS ⟨⟨r9, hr9, rfl⟩, rfl⟩ dJ2_get_14 (Nat.le_of_ble_eq_true rfl) (Nat.le_of_ble_eq_true rfl)
theorem al_set {f : Nat → Option Nat} {xs : List (Option Nat)} {r : Option Nat} {k : Nat} (hk : k < xs.length) (h : ∀ i : Nat, i < xs.length → xs[i]? = some (f i)) : ∀ i : Nat, i < (xs.set k r).length → (xs.set k r)[i]? = some (va_up f k r i) := by
  intro i hi
  rw [List.length_set] at hi
  by_cases h1 : i = k
  · subst h1
    simp [va_up, hk]
  · rw [List.getElem?_set_ne (Ne.symm h1), h i hi]
    simp [va_up, h1]

set_option maxHeartbeats 4000000 in
set_option maxRecDepth 100000 in
theorem c_J2_set (l : Launch) (Z : mm_G) {M : mm_M} {a ar cap i : Nat} {xs : List (Option Nat)} (hA9 : AL Z M a ar cap xs) (hi : i < xs.length) {r : Option Nat} (hr9 : mm_ok M r) : mm_C l Z yJ2_set (ws_ yJ2_set cJ2_set 4 (some (.object "java/lang/Object"))) { frames := 2, cells := 0, slots := 0, locals := 60 } [.ref a, .int (nI i), va_rf r] M (fun v M' => (∃ r0 : Option Nat, xs[i]? = some r0 ∧ v = some (va_rf r0)) ∧ AL Z M' a ar cap (xs.set i r) ∧ (∀ q : Nat, q ≠ ar → M' q = M q)) mm_nx := by
  refine mm_ofW (cc := cJ2_set) (maxL := 4) (ret := (some (.object "java/lang/Object"))) (by decide) rfl (by simp [lg_sl, mm_cat_o, mm_cat_r, mm_cat_i, mm_cat_l, mm_cat_n]) ?_
  intro p e s m below meth c A ls hx hb hr hlk hml hown hmn hts htab hE hST hA hM hS hl
  have hl : lv_has ls 4 [(0, .ref a), (1, .int (nI i)), (2, va_rf r)] := by simpa [lv_args, mm_cat_o, mm_cat_r, mm_cat_i, mm_cat_l, mm_cat_n] using hl
  have hA8 := hA9
  obtain ⟨md, f, ha, har, hl1, hcap, h0, hf⟩ := hA9
  refine lv_iload_n hx hb dJ2_set_0 rfl (lv_at hl 1 rfl) ?_
  refine lv_aload_n hx hb dJ2_set_1 rfl (lv_at hl 0 rfl) ?_
  refine va_get (D := Z.1) (ci := 41) (v := .int (nI xs.length)) (C := RJ2) (T := TJ2) (N := 3) hx hb hts in_J2 hown hE.1 (hM.at ha) 0 rfl mm_cJ2 2 (by decide) (hts _ q146) (fun _ h9 => h9) rfl dJ2_set_2 ?_
  refine mm_callS (As := [.int (nI i), .int (nI xs.length)]) (rest := []) ⟨hx, hb, hml, hown, hts⟩ hE hST hA (c_J14_checkIndex l Z hi (by omega)) (va_cwS 2 hts (lw_S q503 q504 q68 q505) rfl rfl rfl (by decide +kernel) ⟨(Nat.le_of_ble_eq_true rfl), (Nat.le_of_ble_eq_true rfl)⟩) hM hS rfl hl.1 (Nat.le_of_ble_eq_true rfl) dJ2_set_5 rfl ⟨(Nat.le_of_ble_eq_true rfl), (Nat.le_of_ble_eq_true rfl)⟩ (fun _ _ _ _ _ _ h9 => h9.elim) (fun v_1 M_2 H locs hp_3 hM hS => ?_)
  obtain ⟨rfl, eM_2⟩ := hp_3
  rw [eM_2] at hM
  refine lv_pop hx hb dJ2_set_8 rfl ?_
  refine lv_aload_n hx hb dJ2_set_9 rfl (lv_at hl 0 rfl) ?_
  refine lv_iload_n hx hb dJ2_set_10 rfl (lv_at hl 1 rfl) ?_
  refine mm_callV (As := [.int (nI i)]) (rest := []) ⟨hx, hb, hml, hown, hts⟩ hE hST hA (c_J2_elementData l Z hA8 hi) (cwV 1 hts (lw_V q509 q510 q511 q53 q512) rfl rfl rfl (by decide +kernel) ⟨(Nat.le_of_ble_eq_true rfl), (Nat.le_of_ble_eq_true rfl)⟩) hM hS mm_cJ2 ha rfl hl.1 (Nat.le_of_ble_eq_true rfl) dJ2_set_11 rfl ⟨(Nat.le_of_ble_eq_true rfl), (Nat.le_of_ble_eq_true rfl)⟩ (fun _ _ _ _ _ _ h9 => h9.elim) (fun v_4 M_5 H locs hp_6 hM hS => ?_)
  obtain ⟨⟨r8, hr8, rfl⟩, eM_5⟩ := hp_6
  rw [eM_5] at hM
  refine mm_astore_n (lv' := [(3, va_rf r8), (0, .ref a), (1, .int (nI i)), (2, va_rf r)]) hx hb dJ2_set_14 rfl hl (by decide) (by simp [mm_cat_o, mm_cat_r, mm_cat_i, mm_cat_n, mm_cat_l] <;> decide) (fun ls hl => ?_)
  refine lv_aload_n hx hb dJ2_set_15 rfl (lv_at hl 1 rfl) ?_
  refine va_get (D := Z.1) (ci := 41) (v := .ref ar) (C := RJ2) (T := TJ2) (N := 3) hx hb hts in_J2 hown hE.1 (hM.at ha) 0 rfl mm_cJ2 1 (by decide) (hts _ q143) (fun _ h9 => h9) rfl dJ2_set_16 ?_
  refine lv_iload_n hx hb dJ2_set_19 rfl (lv_at hl 2 rfl) ?_
  refine mm_aload_n hx hb dJ2_set_20 rfl (lv_at hl 3 rfl) ?_
  refine mm_aastK (r := r) (k := i) hx hb hE hM hS har hr9 rfl (by omega) (by omega) dJ2_set_21 (fun H locs hM hS => ?_)
  have hM : mm_P Z.1 mm_cl A (mm_U M ar (.inl (Z.2.1 3, cap, .inr (.inr (.inr (.inr (va_up f i r))))))) H := hM
  have hc_7 : (mm_U M ar (.inl (Z.2.1 3, cap, .inr (.inr (.inr (.inr (va_up f i r))))))) ar = some (.inl (Z.2.1 3, cap, .inr (.inr (.inr (.inr (va_up f i r)))))) := mm_U_eq
  have hc_8 : (mm_U M ar (.inl (Z.2.1 3, cap, .inr (.inr (.inr (.inr (va_up f i r))))))) a = some (.inr (41, [.int md, .ref ar, .int (nI xs.length)])) := (mm_U_ne (Ne.symm (mm_neA har ha))).trans ha
  obtain ⟨M_9, eM_9⟩ : ∃ z, z = mm_U M ar (.inl (Z.2.1 3, cap, .inr (.inr (.inr (.inr (va_up f i r)))))) := ⟨_, rfl⟩
  rw [← eM_9] at hM hc_8 hc_7
  refine mm_aload_n hx hb dJ2_set_22 rfl (lv_at hl 0 rfl) ?_
  exact mm_reta hx hb hr (Or.inl ⟨_, rfl⟩) (mm_rf_or _) hlk hM hS ⟨⟨r8, hr8, rfl⟩, AL.of (by rw [List.length_set]; exact hc_8) hc_7 (by rw [List.length_set]; exact hl1) hcap h0 (al_set hi hf), fun q h1 => by rw [eM_9, mm_U_ne h1]⟩ dJ2_set_23 (Nat.le_of_ble_eq_true rfl) (Nat.le_of_ble_eq_true rfl)
set_option maxHeartbeats 4000000 in
set_option maxRecDepth 100000 in
theorem c_J2_isEmpty (l : Launch) (Z : mm_G) {M : mm_M} {a ar cap : Nat} {xs : List (Option Nat)} (hA9 : AL Z M a ar cap xs) : mm_C l Z yJ2_isEmpty (ws_ yJ2_isEmpty cJ2_isEmpty 1 (some .boolean)) { frames := 0, cells := 0, slots := 0, locals := 0 } [.ref a] M (fun v M' => v = some (.int (mm_b xs.isEmpty)) ∧ M' = M) mm_nx := by
  refine mm_ofW (cc := cJ2_isEmpty) (maxL := 1) (ret := (some .boolean)) (by decide) rfl (Nat.le_of_ble_eq_true rfl) ?_
  intro p e s m below meth c A ls hx hb hr hlk hml hown hmn hts htab hE hST hA hM hS hl
  have hl : lv_has ls 1 [(0, .ref a)] := hl
  obtain ⟨md, f, ha, har, hl1, hcap, h0, hf⟩ := hA9
  refine lv_aload_n hx hb dJ2_isEmpty_0 rfl (lv_at hl 0 rfl) ?_
  refine va_get (D := Z.1) (ci := 41) (v := .int (nI xs.length)) (C := RJ2) (T := TJ2) (N := 3) hx hb hts in_J2 hown hE.1 (hM.at ha) 0 rfl mm_cJ2 2 (by decide) (hts _ q146) (fun _ h9 => h9) rfl dJ2_isEmpty_1 ?_
  refine lv_if_ne (tgt := 11) hx hb dJ2_isEmpty_4 (by decide) (fun c_1 => ?_) (fun c_1 => ?_)
  · have h9 : xs.isEmpty = false := by cases xs with | nil => exact absurd nI_0 c_1 | cons y ys => rfl
    refine lv_iconst (v := 0) hx hb dJ2_isEmpty_11 (by decide) ?_
    exact mm_retz hx hb hr rfl hlk hM hS ⟨by rw [h9]; rfl, rfl⟩ dJ2_isEmpty_12 (Nat.le_of_ble_eq_true rfl) (Nat.le_of_ble_eq_true rfl)
  · have h9 : xs.length = 0 := (nI_eq (b := 0) (by omega) (by omega)).1 (by rw [c_1]; exact nI_0.symm)
    have h8 : xs.isEmpty = true := by cases xs with | nil => rfl | cons y ys => simp at h9
    refine lv_iconst (v := 1) hx hb dJ2_isEmpty_7 (by decide) ?_
    refine lv_goto (tgt := 12) hx hb dJ2_isEmpty_8 (by decide) ?_
    exact mm_retz hx hb hr rfl hlk hM hS ⟨by rw [h8]; rfl, rfl⟩ dJ2_isEmpty_12 (Nat.le_of_ble_eq_true rfl) (Nat.le_of_ble_eq_true rfl)
