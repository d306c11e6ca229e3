/-! ===== ArrayList: toArray, remove ===== -/
set_option maxRecDepth 100000
theorem pk_sub1 {n : Nat} (h : 0 < n) : nI n - 1 = nI (n - 1) := by
  obtain ⟨k, rfl⟩ : ∃ k, n = k + 1 := ⟨n - 1, by omega⟩
  rw [nI_pred]; rfl
theorem va_cpyZ {α : Type} (f g : Nat → α) (a b : Nat) : va_cpy f g a b 0 = g := by
  funext i
  unfold va_cpy
  rw [if_neg (by omega)]

set_option maxHeartbeats 4000000 in
set_option maxRecDepth 100000 in
theorem c_J10_copyOf_2s (l : Launch) (Z : mm_G) {M : mm_M} {ar cap nc : Nat} {f : Nat → Option Nat} (ha : M ar = some (al_A Z cap f)) (hc : cap < 2 ^ 20) (hcn : nc ≤ cap) (hok : ∀ i : Nat, i < nc → mm_ok M (f i)) : mm_C l Z yJ10_copyOf_2 (ws_ yJ10_copyOf_2 cJ10_copyOf_2 4 (some (.array (.object "java/lang/Object")))) { frames := 1, cells := 1, slots := nc, locals := 60 } [.ref ar, .int (nI nc), .ref (Z.2.2.1 6)] M (fun v M' => ∃ q : Nat, M q = none ∧ v = some (.ref q) ∧ M' = mm_U M q (al_A Z nc (va_cpy f (fun _ => none) 0 0 nc))) mm_nx := by
  refine mm_ofW (cc := cJ10_copyOf_2) (maxL := 4) (ret := (some (.array (.object "java/lang/Object")))) (by decide) rfl (Nat.le_of_ble_eq_true rfl) ?_
  intro p e s m below meth c A ls hx hb hr hlk hml hown hmn hts htab hE hST hA hM hS hl
  replace hl : lv_has ls 4 [(0, .ref ar), (1, .int (nI nc)), (2, .ref (Z.2.2.1 6))] := hl
  refine lv_aload_n hx hb dJ10_copyOf_2_0 rfl (lv_at hl 2 rfl) ?_
  refine va_ldcM hx hb hown (hts _ q423) hE.2.2.2.2.2.2.1 dJ10_copyOf_2_1 ?_
  refine lv_acmp_ne (rx := some (Z.2.2.1 6)) (ry := some (Z.2.2.1 6)) (tgt := 13) hx hb dJ10_copyOf_2_3 (by decide) (fun h9 => absurd rfl h9) (fun _ => ?_)
  refine lv_iload_n hx hb dJ10_copyOf_2_6 rfl (lv_at hl 1 rfl) ?_
  refine mm_newq hx hb hown (hts _ q425) (hE.2.2.2.2.1 _ (by decide)) hE.1 hM hS hA 3 rfl (nI_pos (by omega)) (nI_clamp (by omega)) (by omega) (Nat.le_refl _) (by dsimp only; omega) dJ10_copyOf_2_7 (fun q_1 H nq_2 hM hS => ?_)
  have hM : mm_P Z.1 mm_cl A (mm_U M q_1 (.inl (Z.2.1 3, nc, .inr (.inr (.inr (.inr (fun _ => none))))))) H := hM
  have ne_3 : ar ≠ q_1 := (mm_neN ha nq_2)
  have hc_4 : (mm_U M q_1 (.inl (Z.2.1 3, nc, .inr (.inr (.inr (.inr (fun _ => none))))))) q_1 = some (.inl (Z.2.1 3, nc, .inr (.inr (.inr (.inr (fun _ => none)))))) := mm_U_eq
  have hc_5 : (mm_U M q_1 (.inl (Z.2.1 3, nc, .inr (.inr (.inr (.inr (fun _ => none))))))) ar = some (.inl (Z.2.1 3, cap, .inr (.inr (.inr (.inr f))))) := (mm_U_ne ne_3).trans ha
  obtain ⟨M_6, eM_6⟩ : ∃ z, z = mm_U M q_1 (.inl (Z.2.1 3, nc, .inr (.inr (.inr (.inr (fun _ => none)))))) := ⟨_, rfl⟩
  rw [← eM_6] at hM hc_5 hc_4
  refine lv_goto (tgt := 24) hx hb dJ10_copyOf_2_10 (by decide) ?_
  refine lv_astore_n hx hb dJ10_copyOf_2_24 rfl hl (by decide) rfl (fun ls hl => ?_)
  replace hl : lv_has ls 4 [(3, .ref q_1), (0, .ref ar), (1, .int (nI nc)), (2, .ref (Z.2.2.1 6))] := hl
  refine lv_aload_n hx hb dJ10_copyOf_2_25 rfl (lv_at hl 1 rfl) ?_
  refine lv_iconst (v := 0) hx hb dJ10_copyOf_2_26 (by decide) ?_
  refine lv_aload_n hx hb dJ10_copyOf_2_27 rfl (lv_at hl 0 rfl) ?_
  refine lv_iconst (v := 0) hx hb dJ10_copyOf_2_28 (by decide) ?_
  refine lv_aload_n hx hb dJ10_copyOf_2_29 rfl (lv_at hl 1 rfl) ?_
  refine mm_alen hx hb hE hM 3 hc_5 rfl dJ10_copyOf_2_30 ?_
  refine lv_iload_n hx hb dJ10_copyOf_2_31 rfl (lv_at hl 2 rfl) ?_
  refine va_mmin hx hb (hml.trans hl.1.symm) hown (hts _ q426) (hts _ q427) (hts _ q62) (hts _ q428) (Nat.le_of_ble_eq_true rfl) (Nat.le_of_ble_eq_true rfl) (by dsimp only; omega) (by dsimp only; omega) dJ10_copyOf_2_32 ?_
  rw [show ((if (nI nc) < (nI cap) then (nI nc) else (nI cap)) : Int32) = nI nc from (mm_min (by omega) (by omega)).trans (by congr 1; omega)]
  refine mm_copyK (kS := 0) (kD := 0) (kN := nc) hx hb (hml.trans hl.1.symm) hown (hts _ q429) (hts _ q431) (hts _ q430) (hts _ q64) hE hM hS hc_5 hc_4 rfl rfl rfl (by omega) (by omega) (by omega) (by omega) (fun i hi y hy => by rw [Nat.zero_add] at hy; obtain ⟨ci, fs, h⟩ := hok i hi y hy; exact ⟨ci, fs, by rw [eM_6, mm_U_ne (mm_neN h nq_2)]; exact h⟩) (Nat.le_of_ble_eq_true rfl) (Nat.le_of_ble_eq_true rfl) dJ10_copyOf_2_35 (fun H locs hM hS => ?_)
  have hM : mm_P Z.1 mm_cl A (mm_U M_6 q_1 (.inl (Z.2.1 3, nc, .inr (.inr (.inr (.inr (va_cpy f (fun _ => none) 0 0 nc))))))) H := hM
  have hc_7 : (mm_U M_6 q_1 (.inl (Z.2.1 3, nc, .inr (.inr (.inr (.inr (va_cpy f (fun _ => none) 0 0 nc))))))) q_1 = some (.inl (Z.2.1 3, nc, .inr (.inr (.inr (.inr (va_cpy f (fun _ => none) 0 0 nc)))))) := mm_U_eq
  have hc_8 : (mm_U M_6 q_1 (.inl (Z.2.1 3, nc, .inr (.inr (.inr (.inr (va_cpy f (fun _ => none) 0 0 nc))))))) ar = some (.inl (Z.2.1 3, cap, .inr (.inr (.inr (.inr f))))) := (mm_U_ne ne_3).trans hc_5
  obtain ⟨M_9, eM_9⟩ : ∃ z, z = mm_U M_6 q_1 (.inl (Z.2.1 3, nc, .inr (.inr (.inr (.inr (va_cpy f (fun _ => none) 0 0 nc)))))) := ⟨_, rfl⟩
  rw [← eM_9] at hM hc_8 hc_7
  refine lv_aload_n hx hb dJ10_copyOf_2_38 rfl (lv_at hl 0 rfl) ?_
  exact mm_reta hx hb hr (Or.inr ⟨_, rfl⟩) (Or.inr ⟨_, rfl⟩) hlk hM hS ⟨q_1, nq_2, rfl, by subst eM_9 eM_6; simp only [mm_U_U]⟩ dJ10_copyOf_2_39 (Nat.le_refl _) (by dsimp only; omega)
set_option maxHeartbeats 4000000 in
set_option maxRecDepth 100000 in
theorem c_J10_copyOf_s (l : Launch) (Z : mm_G) {M : mm_M} {ar cap nc : Nat} {f : Nat → Option Nat} (ha : M ar = some (al_A Z cap f)) (hc : cap < 2 ^ 20) (hcn : nc ≤ cap) (hok : ∀ i : Nat, i < nc → mm_ok M (f i)) : mm_C l Z yJ10_copyOf (ws_ yJ10_copyOf cJ10_copyOf 2 (some (.array (.object "java/lang/Object")))) { frames := 2, cells := 1, slots := nc, locals := 100 } [.ref ar, .int (nI nc)] M (fun v M' => ∃ q : Nat, M q = none ∧ v = some (.ref q) ∧ M' = mm_U M q (al_A Z nc (va_cpy f (fun _ => none) 0 0 nc))) mm_nx := by
  refine mm_ofW (cc := cJ10_copyOf) (maxL := 2) (ret := (some (.array (.object "java/lang/Object")))) (by decide) rfl (Nat.le_of_ble_eq_true rfl) ?_
  intro p e s m below meth c A ls hx hb hr hlk hml hown hmn hts htab hE hST hA hM hS hl
  replace hl : lv_has ls 2 [(0, .ref ar), (1, .int (nI nc))] := hl
  refine lv_aload_n hx hb dJ10_copyOf_0 rfl (lv_at hl 0 rfl) ?_
  refine lv_iload_n hx hb dJ10_copyOf_1 rfl (lv_at hl 1 rfl) ?_
  refine lv_aload_n hx hb dJ10_copyOf_2 rfl (lv_at hl 0 rfl) ?_
  refine mm_getCO hx hb (hml.trans hl.1.symm) hown (hts _ q363) q2938 (hts _ q2937) (hts _ q364) (hts _ q419) hE hM ha (Nat.le_of_ble_eq_true rfl) (Nat.le_of_ble_eq_true rfl) dJ10_copyOf_3 ?_
  refine mm_callS (As := [.ref ar, .int (nI nc), .ref (Z.2.2.1 6)]) (rest := []) ⟨hx, hb, hml, hown, hts⟩ hE hST hA (c_J10_copyOf_2s l Z ha hc hcn hok) (va_cwS 3 hts (lw_S q420 q421 q63 q422) rfl rfl rfl (by decide +kernel) ⟨(Nat.le_of_ble_eq_true rfl), (Nat.le_of_ble_eq_true rfl)⟩) hM hS rfl hl.1 (Nat.le_of_ble_eq_true rfl) dJ10_copyOf_6 rfl ⟨(by dsimp only; omega), (by dsimp only; omega)⟩ (fun _ _ _ _ _ _ h9 => h9.elim) (fun v_1 M_2 H locs hp_3 hM hS => ?_)
  obtain ⟨q9, hq9, rfl, eM9⟩ := hp_3
  exact mm_reta hx hb hr (Or.inr ⟨_, rfl⟩) (Or.inr ⟨_, rfl⟩) hlk hM hS ⟨q9, hq9, rfl, eM9⟩ dJ10_copyOf_9 (by dsimp only; omega) (by dsimp only; omega)
set_option maxHeartbeats 4000000 in
set_option maxRecDepth 100000 in
theorem c_J2_toArray (l : Launch) (Z : mm_G) {M : mm_M} {a ar n cap : Nat} {md : Int32} {f : Nat → Option Nat} (ha9 : M a = some (al_E md ar n)) (har : M ar = some (al_A Z cap f)) (hc : cap < 2 ^ 20) (hcn : n ≤ cap) (hok : ∀ i : Nat, i < n → mm_ok M (f i)) : mm_C l Z yJ2_toArray (ws_ yJ2_toArray cJ2_toArray 1 (some (.array (.object "java/lang/Object")))) { frames := 3, cells := 1, slots := n, locals := 140 } [.ref a] M (fun v M' => ∃ q : Nat, M q = none ∧ v = some (.ref q) ∧ M' = mm_U M q (al_A Z n (va_cpy f (fun _ => none) 0 0 n))) mm_nx := by
  refine mm_ofW (cc := cJ2_toArray) (maxL := 1) (ret := (some (.array (.object "java/lang/Object")))) (by decide) rfl (Nat.le_of_ble_eq_true rfl) ?_
  intro p e s m below meth c A ls hx hb hr hlk hml hown hmn hts htab hE hST hA hM hS hl
  replace hl : lv_has ls 1 [(0, .ref a)] := hl
  refine lv_aload_n hx hb dJ2_toArray_0 rfl (lv_at hl 0 rfl) ?_
  refine va_get (D := Z.1) (ci := 41) (v := .ref ar) (C := RJ2) (T := TJ2) (N := 3) hx hb hts in_J2 hown hE.1 (hM.at ha9) 0 rfl mm_cJ2 1 (by decide) (hts _ q143) (fun _ h9 => h9) rfl dJ2_toArray_1 ?_
  refine lv_aload_n hx hb dJ2_toArray_4 rfl (lv_at hl 0 rfl) ?_
  refine va_get (D := Z.1) (ci := 41) (v := .int (nI n)) (C := RJ2) (T := TJ2) (N := 3) hx hb hts in_J2 hown hE.1 (hM.at ha9) 0 rfl mm_cJ2 2 (by decide) (hts _ q146) (fun _ h9 => h9) rfl dJ2_toArray_5 ?_
  refine mm_callS (As := [.ref ar, .int (nI n)]) (rest := []) ⟨hx, hb, hml, hown, hts⟩ hE hST hA (c_J10_copyOf_s l Z har hc hcn hok) (va_cwS 2 hts (lw_S q360 q361 q63 q362) rfl rfl rfl (by decide +kernel) ⟨(Nat.le_of_ble_eq_true rfl), (Nat.le_of_ble_eq_true rfl)⟩) hM hS rfl hl.1 (Nat.le_of_ble_eq_true rfl) dJ2_toArray_8 rfl ⟨(by dsimp only; omega), (by dsimp only; omega)⟩ (fun _ _ _ _ _ _ h9 => h9.elim) (fun v_1 M_2 H locs hp_3 hM hS => ?_)
  obtain ⟨q9, hq9, rfl, eM9⟩ := hp_3
  exact mm_reta hx hb hr (Or.inr ⟨_, rfl⟩) (Or.inr ⟨_, rfl⟩) hlk hM hS ⟨q9, hq9, rfl, eM9⟩ dJ2_toArray_11 (by dsimp only; omega) (by dsimp only; omega)
set_option maxHeartbeats 4000000 in
set_option maxRecDepth 100000 in
theorem c_J2_fastRemove (l : Launch) (Z : mm_G) {M : mm_M} {a ar n cap i : Nat} {md : Int32} {f : Nat → Option Nat} (ha9 : M a = some (al_E md ar n)) (har : M ar = some (al_A Z cap f)) (hc : cap < 2 ^ 20) (hcn : n ≤ cap) (hi : i < n) (hok : ∀ j : Nat, j < n → mm_ok M (f j)) : mm_C l Z yJ2_fastRemove (ws_ yJ2_fastRemove cJ2_fastRemove 4 none) { frames := 1, cells := 0, slots := 0, locals := 80 } [.ref a, .ref ar, .int (nI i)] M (fun v M' => v = none ∧ M' = mm_U (mm_U M ar (al_A Z cap (va_up (va_cpy f f (i + 1) i (n - 1 - i)) (n - 1) none))) a (al_E (md + 1) ar (n - 1))) mm_nx := by
  refine mm_ofW (cc := cJ2_fastRemove) (maxL := 4) (ret := none) (by decide) rfl (Nat.le_of_ble_eq_true rfl) ?_
  intro p e s m below meth c A ls hx hb hr hlk hml hown hmn hts htab hE hST hA hM hS hl
  replace hl : lv_has ls 4 [(0, .ref a), (1, .ref ar), (2, .int (nI i))] := hl
  refine lv_aload_n hx hb dJ2_fastRemove_0 rfl (lv_at hl 0 rfl) ?_
  refine lv_dup hx hb dJ2_fastRemove_1 rfl ?_
  refine va_get (D := Z.1) (ci := 41) (v := .int md) (C := RJ2) (T := TJ2) (N := 3) hx hb hts in_J2 hown hE.1 (hM.at ha9) 0 rfl mm_cJ2 0 (by decide) (hts _ q150) (fun x9 h9 => u_same (hts _ q149) x9 h9) rfl dJ2_fastRemove_2 ?_
  refine lv_iconst (v := 1) hx hb dJ2_fastRemove_5 (by decide) ?_
  refine lv_iadd hx hb dJ2_fastRemove_6 ?_
  refine mm_put (D := Z.1) (ci := 41) (v := .int (md + 1)) (ty := .int) (C := RJ2) (T := TJ2) (N := 3) hx hb hts in_J2 tyJ2 tyJ2_ok nmJ2 hown hE.1 hM hS ha9 mm_cJ2 0 (by decide) (hts _ q150) (fun x9 h9 => u_same (hts _ q149) x9 h9) rfl (by decide +kernel) rfl rfl (Nat.le_of_ble_eq_true rfl) dJ2_fastRemove_7 (fun H locs hM hS => ?_)
  have hM : mm_P Z.1 mm_cl A (mm_U M a (.inr (41, [.int (md + 1), .ref ar, .int (nI n)]))) H := hM
  have hc_1 : (mm_U M a (.inr (41, [.int (md + 1), .ref ar, .int (nI n)]))) a = some (.inr (41, [.int (md + 1), .ref ar, .int (nI n)])) := mm_U_eq
  have hc_2 : (mm_U M a (.inr (41, [.int (md + 1), .ref ar, .int (nI n)]))) ar = some (.inl (Z.2.1 3, cap, .inr (.inr (.inr (.inr f))))) := (mm_U_ne (mm_neA har ha9)).trans har
  obtain ⟨M_3, eM_3⟩ : ∃ z, z = mm_U M a (.inr (41, [.int (md + 1), .ref ar, .int (nI n)])) := ⟨_, rfl⟩
  rw [← eM_3] at hM hc_1 hc_2
  refine lv_aload_n hx hb dJ2_fastRemove_10 rfl (lv_at hl 0 rfl) ?_
  refine va_get (D := Z.1) (ci := 41) (v := .int (nI n)) (C := RJ2) (T := TJ2) (N := 3) hx hb hts in_J2 hown hE.1 (hM.at hc_1) 0 rfl mm_cJ2 2 (by decide) (hts _ q146) (fun _ h9 => h9) rfl dJ2_fastRemove_11 ?_
  refine lv_iconst (v := 1) hx hb dJ2_fastRemove_14 (by decide) ?_
  refine lv_isub hx hb dJ2_fastRemove_15 ?_
  rw [show ((nI n) - 1 : Int32) = nI (n - 1) from pk_sub1 (by omega)]
  refine lv_dup hx hb dJ2_fastRemove_16 rfl ?_
  refine lv_istore_n hx hb dJ2_fastRemove_17 rfl hl (by decide) rfl (fun ls hl => ?_)
  replace hl : lv_has ls 4 [(3, .int (nI (n - 1))), (0, .ref a), (1, .ref ar), (2, .int (nI i))] := hl
  refine lv_iload_n hx hb dJ2_fastRemove_18 rfl (lv_at hl 3 rfl) ?_
  refine lv_icmp_le (tgt := 34) hx hb dJ2_fastRemove_19 (by decide) (fun c_4 => ?_) (fun c_4 => ?_)
  · have h9 : n - 1 - i = 0 := by have := (nI_leI (by omega) (by omega)).1 c_4; omega
    refine lv_aload_n hx hb dJ2_fastRemove_34 rfl (lv_at hl 2 rfl) ?_
    refine lv_aload_n hx hb dJ2_fastRemove_35 rfl (lv_at hl 1 rfl) ?_
    refine lv_iload_n hx hb dJ2_fastRemove_36 rfl (lv_at hl 0 rfl) ?_
    refine lv_dup_x1 hx hb dJ2_fastRemove_37 rfl rfl ?_
    refine mm_put (D := Z.1) (ci := 41) (v := .int (nI (n - 1))) (ty := .int) (C := RJ2) (T := TJ2) (N := 3) hx hb hts in_J2 tyJ2 tyJ2_ok nmJ2 hown hE.1 hM hS hc_1 mm_cJ2 2 (by decide) (hts _ q146) (fun _ h9 => h9) rfl (by decide +kernel) rfl rfl (Nat.le_of_ble_eq_true rfl) dJ2_fastRemove_38 (fun H locs hM hS => ?_)
    have hM : mm_P Z.1 mm_cl A (mm_U M_3 a (.inr (41, [.int (md + 1), .ref ar, .int (nI (n - 1))]))) H := hM
    have hc_5 : (mm_U M_3 a (.inr (41, [.int (md + 1), .ref ar, .int (nI (n - 1))]))) a = some (.inr (41, [.int (md + 1), .ref ar, .int (nI (n - 1))])) := mm_U_eq
    have hc_6 : (mm_U M_3 a (.inr (41, [.int (md + 1), .ref ar, .int (nI (n - 1))]))) ar = some (.inl (Z.2.1 3, cap, .inr (.inr (.inr (.inr f))))) := (mm_U_ne (mm_neA har ha9)).trans hc_2
    obtain ⟨M_7, eM_7⟩ : ∃ z, z = mm_U M_3 a (.inr (41, [.int (md + 1), .ref ar, .int (nI (n - 1))])) := ⟨_, rfl⟩
    rw [← eM_7] at hM hc_5 hc_6
    refine lv_null hx hb dJ2_fastRemove_41 ?_
    refine mm_aastK (r := none) (k := (n - 1)) hx hb hE hM hS hc_6 (fun v9 h => by cases h) rfl (by omega) (by omega) dJ2_fastRemove_42 (fun H locs hM hS => ?_)
    have hM : mm_P Z.1 mm_cl A (mm_U M_7 ar (.inl (Z.2.1 3, cap, .inr (.inr (.inr (.inr (va_up f (n - 1) none))))))) H := hM
    have hc_8 : (mm_U M_7 ar (.inl (Z.2.1 3, cap, .inr (.inr (.inr (.inr (va_up f (n - 1) none))))))) ar = some (.inl (Z.2.1 3, cap, .inr (.inr (.inr (.inr (va_up f (n - 1) none)))))) := mm_U_eq
    have hc_9 : (mm_U M_7 ar (.inl (Z.2.1 3, cap, .inr (.inr (.inr (.inr (va_up f (n - 1) none))))))) a = some (.inr (41, [.int (md + 1), .ref ar, .int (nI (n - 1))])) := (mm_U_ne (Ne.symm (mm_neA har ha9))).trans hc_5
    obtain ⟨M_10, eM_10⟩ : ∃ z, z = mm_U M_7 ar (.inl (Z.2.1 3, cap, .inr (.inr (.inr (.inr (va_up f (n - 1) none)))))) := ⟨_, rfl⟩
    rw [← eM_10] at hM hc_9 hc_8
    have e9 : va_cpy f f (i + 1) i (n - 1 - i) = f := by rw [h9]; exact va_cpyZ _ _ _ _
    have e7 : M_10 = mm_U (mm_U M ar (al_A Z cap (va_up (va_cpy f f (i + 1) i (n - 1 - i)) (n - 1) none))) a (al_E (md + 1) ar (n - 1)) := by subst eM_10 eM_7 eM_3; rw [e9, mm_U_comm (mm_neA har ha9)]; simp only [mm_U_U]
    exact mm_retv hx hb hr hlk hM hS ⟨rfl, e7⟩ dJ2_fastRemove_43 (Nat.le_of_ble_eq_true rfl) (Nat.le_of_ble_eq_true rfl)
  · have h9 : i < n - 1 := by have : ¬ n - 1 ≤ i := fun q => c_4 ((nI_leI (by omega) (by omega)).2 q); omega
    refine lv_aload_n hx hb dJ2_fastRemove_22 rfl (lv_at hl 2 rfl) ?_
    refine lv_iload_n hx hb dJ2_fastRemove_23 rfl (lv_at hl 3 rfl) ?_
    refine lv_iconst (v := 1) hx hb dJ2_fastRemove_24 (by decide) ?_
    refine lv_iadd hx hb dJ2_fastRemove_25 ?_
    rw [show ((nI i) + 1 : Int32) = nI (i + 1) from nI_1 _]
    refine lv_aload_n hx hb dJ2_fastRemove_26 rfl (lv_at hl 2 rfl) ?_
    refine lv_iload_n hx hb dJ2_fastRemove_27 rfl (lv_at hl 3 rfl) ?_
    refine lv_iload_n hx hb dJ2_fastRemove_28 rfl (lv_at hl 0 rfl) ?_
    refine lv_iload_n hx hb dJ2_fastRemove_29 rfl (lv_at hl 3 rfl) ?_
    refine lv_isub hx hb dJ2_fastRemove_30 ?_
    rw [show ((nI (n - 1)) - (nI i) : Int32) = nI (n - 1 - i) from pk_sub (by omega)]
    refine mm_copyK (kS := (i + 1)) (kD := i) (kN := (n - 1 - i)) hx hb (hml.trans hl.1.symm) hown (hts _ q1531) (hts _ q431) (hts _ q430) (hts _ q64) hE hM hS hc_2 hc_2 rfl rfl rfl (by omega) (by omega) (by omega) (by omega) (fun j hj y hy => by obtain ⟨ci, fs, h⟩ := hok (i + 1 + j) (by omega) y hy; by_cases hya : y = a; exact ⟨_, _, by rw [hya]; exact hc_1⟩; exact ⟨ci, fs, by rw [eM_3, mm_U_ne hya]; exact h⟩) (Nat.le_of_ble_eq_true rfl) (Nat.le_of_ble_eq_true rfl) dJ2_fastRemove_31 (fun H locs hM hS => ?_)
    have hM : mm_P Z.1 mm_cl A (mm_U M_3 ar (.inl (Z.2.1 3, cap, .inr (.inr (.inr (.inr (va_cpy f f (i + 1) i (n - 1 - i)))))))) H := hM
    have hc_5 : (mm_U M_3 ar (.inl (Z.2.1 3, cap, .inr (.inr (.inr (.inr (va_cpy f f (i + 1) i (n - 1 - i)))))))) ar = some (.inl (Z.2.1 3, cap, .inr (.inr (.inr (.inr (va_cpy f f (i + 1) i (n - 1 - i))))))) := mm_U_eq
    have hc_6 : (mm_U M_3 ar (.inl (Z.2.1 3, cap, .inr (.inr (.inr (.inr (va_cpy f f (i + 1) i (n - 1 - i)))))))) a = some (.inr (41, [.int (md + 1), .ref ar, .int (nI n)])) := (mm_U_ne (Ne.symm (mm_neA har ha9))).trans hc_1
    obtain ⟨M_7, eM_7⟩ : ∃ z, z = mm_U M_3 ar (.inl (Z.2.1 3, cap, .inr (.inr (.inr (.inr (va_cpy f f (i + 1) i (n - 1 - i))))))) := ⟨_, rfl⟩
    rw [← eM_7] at hM hc_6 hc_5
    refine lv_aload_n hx hb dJ2_fastRemove_34 rfl (lv_at hl 2 rfl) ?_
    refine lv_aload_n hx hb dJ2_fastRemove_35 rfl (lv_at hl 1 rfl) ?_
    refine lv_iload_n hx hb dJ2_fastRemove_36 rfl (lv_at hl 0 rfl) ?_
    refine lv_dup_x1 hx hb dJ2_fastRemove_37 rfl rfl ?_
    refine mm_put (D := Z.1) (ci := 41) (v := .int (nI (n - 1))) (ty := .int) (C := RJ2) (T := TJ2) (N := 3) hx hb hts in_J2 tyJ2 tyJ2_ok nmJ2 hown hE.1 hM hS hc_6 mm_cJ2 2 (by decide) (hts _ q146) (fun _ h9 => h9) rfl (by decide +kernel) rfl rfl (Nat.le_of_ble_eq_true rfl) dJ2_fastRemove_38 (fun H locs hM hS => ?_)
    have hM : mm_P Z.1 mm_cl A (mm_U M_7 a (.inr (41, [.int (md + 1), .ref ar, .int (nI (n - 1))]))) H := hM
    have hc_8 : (mm_U M_7 a (.inr (41, [.int (md + 1), .ref ar, .int (nI (n - 1))]))) a = some (.inr (41, [.int (md + 1), .ref ar, .int (nI (n - 1))])) := mm_U_eq
    have hc_9 : (mm_U M_7 a (.inr (41, [.int (md + 1), .ref ar, .int (nI (n - 1))]))) ar = some (.inl (Z.2.1 3, cap, .inr (.inr (.inr (.inr (va_cpy f f (i + 1) i (n - 1 - i))))))) := (mm_U_ne (mm_neA har ha9)).trans hc_5
    obtain ⟨M_10, eM_10⟩ : ∃ z, z = mm_U M_7 a (.inr (41, [.int (md + 1), .ref ar, .int (nI (n - 1))])) := ⟨_, rfl⟩
    rw [← eM_10] at hM hc_8 hc_9
    refine lv_null hx hb dJ2_fastRemove_41 ?_
    refine mm_aastK (r := none) (k := (n - 1)) hx hb hE hM hS hc_9 (fun v9 h => by cases h) rfl (by omega) (by omega) dJ2_fastRemove_42 (fun H locs hM hS => ?_)
    have hM : mm_P Z.1 mm_cl A (mm_U M_10 ar (.inl (Z.2.1 3, cap, .inr (.inr (.inr (.inr (va_up (va_cpy f f (i + 1) i (n - 1 - i)) (n - 1) none))))))) H := hM
    have hc_11 : (mm_U M_10 ar (.inl (Z.2.1 3, cap, .inr (.inr (.inr (.inr (va_up (va_cpy f f (i + 1) i (n - 1 - i)) (n - 1) none))))))) ar = some (.inl (Z.2.1 3, cap, .inr (.inr (.inr (.inr (va_up (va_cpy f f (i + 1) i (n - 1 - i)) (n - 1) none)))))) := mm_U_eq
    have hc_12 : (mm_U M_10 ar (.inl (Z.2.1 3, cap, .inr (.inr (.inr (.inr (va_up (va_cpy f f (i + 1) i (n - 1 - i)) (n - 1) none))))))) a = some (.inr (41, [.int (md + 1), .ref ar, .int (nI (n - 1))])) := (mm_U_ne (Ne.symm (mm_neA har ha9))).trans hc_8
    obtain ⟨M_13, eM_13⟩ : ∃ z, z = mm_U M_10 ar (.inl (Z.2.1 3, cap, .inr (.inr (.inr (.inr (va_up (va_cpy f f (i + 1) i (n - 1 - i)) (n - 1) none)))))) := ⟨_, rfl⟩
    rw [← eM_13] at hM hc_12 hc_11
    have hne0 : ¬ ar = a := mm_neA har ha9
    have e7 : M_13 = mm_U (mm_U M ar (al_A Z cap (va_up (va_cpy f f (i + 1) i (n - 1 - i)) (n - 1) none))) a (al_E (md + 1) ar (n - 1)) := by subst eM_13 eM_10 eM_7 eM_3; funext z9; by_cases hz : z9 = a <;> by_cases hz2 : z9 = ar <;> first | exact absurd (hz2.symm.trans hz) hne0 | simp [mm_U, hz, hz2, hne0, Ne.symm hne0]
    exact mm_retv hx hb hr hlk hM hS ⟨rfl, e7⟩ dJ2_fastRemove_43 (Nat.le_of_ble_eq_true rfl) (Nat.le_of_ble_eq_true rfl)
theorem al_er {f : Nat → Option Nat} {xs : List (Option Nat)} {i : Nat} (hi : i < xs.length) (h : ∀ j : Nat, j < xs.length → xs[j]? = some (f j)) : ∀ j : Nat, j < (xs.eraseIdx i).length → (xs.eraseIdx i)[j]? = some (va_up (va_cpy f f (i + 1) i (xs.length - 1 - i)) (xs.length - 1) none j) := by
  intro j hj
  rw [List.length_eraseIdx, if_pos hi] at hj
  rw [List.getElem?_eraseIdx]
  have h1 : j ≠ xs.length - 1 := by omega
  by_cases h2 : j < i
  · rw [if_pos h2, h j (by omega)]
    simp [va_up, va_cpy, h1]
    intro h3; omega
  · rw [if_neg h2, h (j + 1) (by omega)]
    have h3 : i ≤ j ∧ j < i + (xs.length - 1 - i) := by omega
    simp only [va_up, va_cpy, if_neg h1, if_pos h3]
    congr 2
    omega

set_option maxHeartbeats 4000000 in
set_option maxRecDepth 100000 in
theorem c_J2_remove (l : Launch) (Z : mm_G) {M : mm_M} {a ar cap i : Nat} {xs : List (Option Nat)} (hA9 : AL Z M a ar cap xs) (hi : i < xs.length) (hxs : ∀ y ∈ xs, mm_ok M y) : mm_C l Z yJ2_remove (ws_ yJ2_remove cJ2_remove 4 (some (.object "java/lang/Object"))) { frames := 2, cells := 0, slots := 0, locals := 140 } [.ref a, .int (nI i)] M (fun v M' => (∃ r : Option Nat, xs[i]? = some r ∧ v = some (va_rf r)) ∧ AL Z M' a ar cap (xs.eraseIdx i) ∧ (∀ q : Nat, q ≠ a → q ≠ ar → M' q = M q)) mm_nx := by
  refine mm_ofW (cc := cJ2_remove) (maxL := 4) (ret := (some (.object "java/lang/Object"))) (by decide) rfl (Nat.le_of_ble_eq_true rfl) ?_
  intro p e s m below meth c A ls hx hb hr hlk hml hown hmn hts htab hE hST hA hM hS hl
  replace hl : lv_has ls 4 [(0, .ref a), (1, .int (nI i))] := hl
  obtain ⟨md, f, ha, har, hl1, hcap, h0, hf⟩ := hA9
  refine lv_iload_n hx hb dJ2_remove_0 rfl (lv_at hl 1 rfl) ?_
  refine lv_aload_n hx hb dJ2_remove_1 rfl (lv_at hl 0 rfl) ?_
  refine va_get (D := Z.1) (ci := 41) (v := .int (nI xs.length)) (C := RJ2) (T := TJ2) (N := 3) hx hb hts in_J2 hown hE.1 (hM.at ha) 0 rfl mm_cJ2 2 (by decide) (hts _ q146) (fun _ h9 => h9) rfl dJ2_remove_2 ?_
  refine mm_callS (As := [.int (nI i), .int (nI xs.length)]) (rest := []) ⟨hx, hb, hml, hown, hts⟩ hE hST hA (c_J14_checkIndex l Z hi (by omega)) (va_cwS 2 hts (lw_S q503 q504 q68 q505) rfl rfl rfl (by decide +kernel) ⟨(Nat.le_of_ble_eq_true rfl), (Nat.le_of_ble_eq_true rfl)⟩) hM hS rfl hl.1 (Nat.le_of_ble_eq_true rfl) dJ2_remove_5 rfl ⟨(Nat.le_of_ble_eq_true rfl), (Nat.le_of_ble_eq_true rfl)⟩ (fun _ _ _ _ _ _ h9 => h9.elim) (fun v_1 M_2 H locs hp_3 hM hS => ?_)
  obtain ⟨rfl, eM_2⟩ := hp_3
  rw [eM_2] at hM
  refine lv_pop hx hb dJ2_remove_8 rfl ?_
  refine lv_aload_n hx hb dJ2_remove_9 rfl (lv_at hl 0 rfl) ?_
  refine va_get (D := Z.1) (ci := 41) (v := .ref ar) (C := RJ2) (T := TJ2) (N := 3) hx hb hts in_J2 hown hE.1 (hM.at ha) 0 rfl mm_cJ2 1 (by decide) (hts _ q143) (fun _ h9 => h9) rfl dJ2_remove_10 ?_
  refine lv_astore_n hx hb dJ2_remove_13 rfl hl (by decide) rfl (fun ls hl => ?_)
  replace hl : lv_has ls 4 [(2, .ref ar), (0, .ref a), (1, .int (nI i))] := hl
  refine lv_aload_n hx hb dJ2_remove_14 rfl (lv_at hl 0 rfl) ?_
  refine lv_iload_n hx hb dJ2_remove_15 rfl (lv_at hl 2 rfl) ?_
  refine mm_aald (k := i) hx hb hE hM 3 har rfl rfl (by omega) (by omega) dJ2_remove_16 ?_
  refine mm_astore_n hx hb dJ2_remove_17 rfl hl (by decide) rfl (fun ls hl => ?_)
  replace hl : lv_has ls 4 [(3, va_rf (f i)), (2, .ref ar), (0, .ref a), (1, .int (nI i))] := hl
  refine lv_aload_n hx hb dJ2_remove_18 rfl (lv_at hl 2 rfl) ?_
  refine lv_aload_n hx hb dJ2_remove_19 rfl (lv_at hl 1 rfl) ?_
  refine lv_iload_n hx hb dJ2_remove_20 rfl (lv_at hl 3 rfl) ?_
  have hok : ∀ j : Nat, j < xs.length → mm_ok M (f j) := fun j hj => hxs _ (List.mem_of_getElem? (hf j hj))
  refine mm_callV (As := [.ref ar, .int (nI i)]) (rest := []) ⟨hx, hb, hml, hown, hts⟩ hE hST hA (c_J2_fastRemove l Z ha har hcap hl1 hi hok) (cwV 2 hts (lw_V q2316 q2318 qs27 q53 q2319) rfl rfl rfl (by decide +kernel) ⟨(Nat.le_of_ble_eq_true rfl), (Nat.le_of_ble_eq_true rfl)⟩) hM hS mm_cJ2 ha rfl hl.1 (Nat.le_of_ble_eq_true rfl) dJ2_remove_21 rfl ⟨(Nat.le_of_ble_eq_true rfl), (Nat.le_of_ble_eq_true rfl)⟩ (fun _ _ _ _ _ _ h9 => h9.elim) (fun v_4 M_5 H locs hp_6 hM hS => ?_)
  obtain ⟨rfl, e9⟩ := hp_6
  refine mm_aload_n hx hb dJ2_remove_24 rfl (lv_at hl 0 rfl) ?_
  exact mm_reta hx hb hr (Or.inl ⟨_, rfl⟩) (mm_rf_or _) hlk hM hS ⟨⟨_, hf i hi, rfl⟩, AL.of (md := md + 1) (f := va_up (va_cpy f f (i + 1) i (xs.length - 1 - i)) (xs.length - 1) none) (by rw [e9, mm_U_eq, List.length_eraseIdx, if_pos hi]) (by rw [e9, mm_U_ne (mm_neA har ha), mm_U_eq]) (by rw [List.length_eraseIdx, if_pos hi]; omega) hcap h0 (al_er hi hf), fun q h1 h2 => by rw [e9, mm_U_ne h1, mm_U_ne h2]⟩ dJ2_remove_25 (Nat.le_of_ble_eq_true rfl) (Nat.le_of_ble_eq_true rfl)
