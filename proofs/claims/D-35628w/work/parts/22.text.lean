/-! ===== StringBuilder, String: texts of signs below 128 ===== -/
set_option maxRecDepth 100000
def tb_f (cs : List Nat) : Nat → Int32 := fun i => nI (cs.getD i 0)
abbrev tb_E (ar n : Nat) : va_E := .inr (49, [.ref ar, .int 0, .int 0, .int (nI n)])
abbrev tb_A (Z : mm_G) (cap : Nat) (f : Nat → Int32) : va_E := .inl (Z.2.1 1, cap, .inl f)
def tb_ok (cs : List Nat) : Prop := ∀ x ∈ cs, x < 128
/-- the builder b holds the signs cs, in the array ar of cap places -/
def TB (Z : mm_G) (M : mm_M) (b ar cap : Nat) (cs : List Nat) : Prop := M b = some (tb_E ar cs.length) ∧ M ar = some (tb_A Z cap (tb_f cs)) ∧ cs.length ≤ cap ∧ cap < 2 ^ 20 ∧ tb_ok cs
theorem tb_fit {cs : List Nat} (h : tb_ok cs) (i : Nat) : fits .byte (.int (tb_f cs i)) = true := by
  have hk : ∀ k : Nat, k < 128 → fits .byte (.int (nI k)) = true := by decide +kernel
  refine hk _ ?_
  by_cases hi : i < cs.length
  · rw [List.getD_eq_getElem?_getD, List.getElem?_eq_getElem hi]; exact h _ (List.getElem_mem hi)
  · rw [List.getD_eq_getElem?_getD, List.getElem?_eq_none (by omega)]; decide
theorem tb_nar {k : Nat} (h : k < 128) : vp_nar .byte (nI k) = nI k := by
  have hk : ∀ k : Nat, k < 128 → vp_nar .byte (nI k) = nI k := by decide +kernel
  exact hk k h
theorem tb_i2b {k : Nat} (h : k < 128) : (nI k).toInt8.toInt32 = nI k := by
  have hk : ∀ k : Nat, k < 128 → (nI k).toInt8.toInt32 = nI k := by decide +kernel
  exact hk k h
theorem tb_snoc {cs : List Nat} {k : Nat} : upd (tb_f cs) cs.length (nI k) = tb_f (cs ++ [k]) := by
  funext i
  unfold upd tb_f
  by_cases h : i = cs.length
  · subst h; simp
  · rw [if_neg h]
    by_cases h1 : i < cs.length
    · simp [List.getD_eq_getElem?_getD, List.getElem?_append_left h1]
    · rw [List.getD_eq_getElem?_getD, List.getD_eq_getElem?_getD, List.getElem?_eq_none (by omega), List.getElem?_eq_none (by simp; omega)]
theorem tb_cpy {cs : List Nat} {n : Nat} (h : cs.length ≤ n) : va_cpy (tb_f cs) (fun _ => 0) 0 0 n = tb_f cs := by
  funext i
  unfold va_cpy
  by_cases h1 : i < n
  · simp [h1]
  · have h2 : cs.length ≤ i := by omega
    simp [h1, tb_f, List.getD_eq_getElem?_getD, List.getElem?_eq_none h2]
    rfl
def tb_cap (mn cap : Nat) : Nat := if mn ≤ cap then cap else cap + max (mn - cap) (cap + 2)
def tb_mk (mn cap : Nat) : Nat := if mn ≤ cap then 0 else 1
def tb_ms (mn cap : Nat) : Nat := if mn ≤ cap then 0 else tb_cap mn cap
theorem pk_sle {a b : Nat} (h : a ≤ b) (hb : b < 2 ^ 30) : nI a - nI b ≤ 0 := by
  by_cases h1 : a = b
  · subst h1
    have : nI a - nI a = 0 := by rw [pk_sub (Nat.le_refl _), Nat.sub_self]; exact nI_0
    rw [this]; decide
  · exact Int32.le_of_lt (pk_sneg hb (by omega))
theorem pk_snle {a b : Nat} (h : b < a) (ha : a < 2 ^ 30) : ¬ nI a - nI b ≤ 0 := by
  rw [pk_sub (by omega)]
  exact nI_nle (by omega) (by omega)
theorem tb_sh0 (x : Int32) : x >>> ((0 : Int32) &&& 31) = x := by
  have h : ((0 : Int32) &&& 31) = 0 := by decide
  rw [h]
  simp
theorem tb_shl0 (x : Int32) : x <<< ((0 : Int32) &&& 31) = x := by
  have h : ((0 : Int32) &&& 31) = 0 := by decide
  rw [h]
  simp

set_option maxHeartbeats 4000000 in
set_option maxRecDepth 100000 in
theorem c_J10_copyOf_3 (l : Launch) (Z : mm_G) {M : mm_M} {ar cap nc : Nat} {cs : List Nat} (ha : M ar = some (tb_A Z cap (tb_f cs))) (hlen : cs.length ≤ cap) (hc : cap < 2 ^ 20) (hn : nc < 2 ^ 26) (hcn : cap < nc) (hok : tb_ok cs) : mm_C l Z yJ10_copyOf_3 (ws_ yJ10_copyOf_3 cJ10_copyOf_3 3 (some (.array .byte))) { frames := 1, cells := 1, slots := nc, locals := 60 } [.ref ar, .int (nI nc)] M (fun v M' => ∃ q : Nat, M q = none ∧ v = some (.ref q) ∧ M' = mm_U M q (tb_A Z nc (tb_f cs))) mm_nx := by
  refine mm_ofW (cc := cJ10_copyOf_3) (maxL := 3) (ret := (some (.array .byte))) (by decide) rfl (Nat.le_of_ble_eq_true rfl) ?_
  intro p e s m below meth c A ls hx hb hr hlk hml hown hmn hts htab hE hST hA hM hS hl
  replace hl : lv_has ls 3 [(0, .ref ar), (1, .int (nI nc))] := hl
  refine lv_iload_n hx hb dJ10_copyOf_3_0 rfl (lv_at hl 1 rfl) ?_
  refine lv_aload_n hx hb dJ10_copyOf_3_1 rfl (lv_at hl 0 rfl) ?_
  refine mm_alen hx hb hE hM 1 ha rfl dJ10_copyOf_3_2 ?_
  refine lv_icmp_ne (tgt := 14) hx hb dJ10_copyOf_3_3 (by decide) (fun _ => ?_) (fun h9 => absurd h9 (fun h8 => absurd ((nI_eq (by omega) (by omega)).1 h8) (by omega)))
  refine lv_iload_n hx hb dJ10_copyOf_3_14 rfl (lv_at hl 1 rfl) ?_
  refine mm_newa (atype := .byte) (ty := .byte) (a0 := (nc, .inl (fun _ => 0))) hx hb (hts _ q172) rfl (fun C9 h9 => by cases h9) hE.1 hM hS hA 1 rfl (fun _ => rfl) (nI_pos (by omega)) (nI_clamp (by omega)) (by show nc * 1 ≤ _; omega) (Nat.le_refl _) (by dsimp only; omega) dJ10_copyOf_3_15 (fun q_1 H nq_2 hM hS => ?_)
  have hM : mm_P Z.1 mm_cl A (mm_U M q_1 (.inl (Z.2.1 1, nc, .inl (fun _ => 0)))) H := hM
  have ne_3 : ar ≠ q_1 := (mm_neN ha nq_2)
  have hc_4 : (mm_U M q_1 (.inl (Z.2.1 1, nc, .inl (fun _ => 0)))) q_1 = some (.inl (Z.2.1 1, nc, .inl (fun _ => 0))) := mm_U_eq
  have hc_5 : (mm_U M q_1 (.inl (Z.2.1 1, nc, .inl (fun _ => 0)))) ar = some (.inl (Z.2.1 1, cap, .inl (tb_f cs))) := (mm_U_ne ne_3).trans ha
  obtain ⟨M_6, eM_6⟩ : ∃ z, z = mm_U M q_1 (.inl (Z.2.1 1, nc, .inl (fun _ => 0))) := ⟨_, rfl⟩
  rw [← eM_6] at hM hc_5 hc_4
  refine lv_astore_n hx hb dJ10_copyOf_3_17 rfl hl (by decide) rfl (fun ls hl => ?_)
  replace hl : lv_has ls 3 [(2, .ref q_1), (0, .ref ar), (1, .int (nI nc))] := hl
  refine lv_aload_n hx hb dJ10_copyOf_3_18 rfl (lv_at hl 1 rfl) ?_
  refine lv_iconst (v := 0) hx hb dJ10_copyOf_3_19 (by decide) ?_
  refine lv_aload_n hx hb dJ10_copyOf_3_20 rfl (lv_at hl 0 rfl) ?_
  refine lv_iconst (v := 0) hx hb dJ10_copyOf_3_21 (by decide) ?_
  refine lv_aload_n hx hb dJ10_copyOf_3_22 rfl (lv_at hl 1 rfl) ?_
  refine mm_alen hx hb hE hM 1 hc_5 rfl dJ10_copyOf_3_23 ?_
  refine lv_iload_n hx hb dJ10_copyOf_3_24 rfl (lv_at hl 2 rfl) ?_
  refine va_mmin hx hb (hml.trans hl.1.symm) hown (hts _ q426) (hts _ q427) (hts _ q62) (hts _ q428) (Nat.le_of_ble_eq_true rfl) (Nat.le_of_ble_eq_true rfl) (by dsimp only; omega) (by dsimp only; omega) dJ10_copyOf_3_25 ?_
  rw [show ((if (nI nc) < (nI cap) then (nI nc) else (nI cap)) : Int32) = nI cap from (mm_min (by omega) (by omega)).trans (by congr 1; omega)]
  refine mm_copyB (kS := 0) (kD := 0) (kN := cap) hx hb (hml.trans hl.1.symm) hown (hts _ q429) (hts _ q431) (hts _ q430) (hts _ q64) hE hM hS hc_5 hc_4 rfl rfl rfl (by omega) (by omega) (by omega) (by omega) (fun i _ => tb_fit hok _) (Nat.le_of_ble_eq_true rfl) (Nat.le_of_ble_eq_true rfl) dJ10_copyOf_3_28 (fun H locs hM hS => ?_)
  rw [show va_cpy (tb_f cs) (fun _ => 0) 0 0 cap = tb_f cs from tb_cpy hlen] at hM
  have hM : mm_P Z.1 mm_cl A (mm_U M_6 q_1 (.inl (Z.2.1 1, nc, .inl (tb_f cs)))) H := hM
  have hc_7 : (mm_U M_6 q_1 (.inl (Z.2.1 1, nc, .inl (tb_f cs)))) q_1 = some (.inl (Z.2.1 1, nc, .inl (tb_f cs))) := mm_U_eq
  have hc_8 : (mm_U M_6 q_1 (.inl (Z.2.1 1, nc, .inl (tb_f cs)))) ar = some (.inl (Z.2.1 1, cap, .inl (tb_f cs))) := (mm_U_ne ne_3).trans hc_5
  obtain ⟨M_9, eM_9⟩ : ∃ z, z = mm_U M_6 q_1 (.inl (Z.2.1 1, nc, .inl (tb_f cs))) := ⟨_, rfl⟩
  rw [← eM_9] at hM hc_8 hc_7
  refine lv_aload_n hx hb dJ10_copyOf_3_31 rfl (lv_at hl 0 rfl) ?_
  exact mm_reta hx hb hr (Or.inr ⟨_, rfl⟩) (Or.inr ⟨_, rfl⟩) hlk hM hS ⟨q_1, nq_2, rfl, by subst eM_9 eM_6; simp only [mm_U_U]⟩ dJ10_copyOf_3_32 (Nat.le_refl _) (by dsimp only; omega)
set_option maxHeartbeats 4000000 in
set_option maxRecDepth 100000 in
theorem c_J18_newCapacity (l : Launch) (Z : mm_G) {M : mm_M} {b ar cap : Nat} {cs : List Nat} (hb9 : M b = some (tb_E ar cs.length)) (ha : M ar = some (tb_A Z cap (tb_f cs))) (hlen : cs.length ≤ cap) (hc : cap < 2 ^ 18) (hok : tb_ok cs) {mn : Nat} (hm : cap < mn) (hm2 : mn < 2 ^ 19) : mm_C l Z yJ18_newCapacity (ws_ yJ18_newCapacity cJ18_newCapacity 6 (some .int)) { frames := 2, cells := 0, slots := 0, locals := 60 } [.ref b, .int (nI mn)] M (fun v M' => v = some (.int (nI (tb_cap mn cap))) ∧ M' = M) mm_nx := by
  refine mm_ofW (cc := cJ18_newCapacity) (maxL := 6) (ret := (some .int)) (by decide) rfl (Nat.le_of_ble_eq_true rfl) ?_
  intro p e s m below meth c A ls hx hb hr hlk hml hown hmn hts htab hE hST hA hM hS hl
  replace hl : lv_has ls 6 [(0, .ref b), (1, .int (nI mn))] := hl
  have hnc : tb_cap mn cap = cap + max (mn - cap) (cap + 2) := if_neg (by omega)
  refine lv_aload_n hx hb dJ18_newCapacity_0 rfl (lv_at hl 0 rfl) ?_
  refine va_get (D := Z.1) (ci := 49) (v := .ref ar) (C := RJ19) (T := TJ19) (N := 4) hx hb hts in_J19 hown hE.1 (hM.at hb9) 0 rfl mm_cJ19 0 (by decide) (hts _ q1318) (fun _ h9 => h9) rfl dJ18_newCapacity_1 ?_
  refine mm_alen hx hb hE hM 1 ha rfl dJ18_newCapacity_4 ?_
  refine lv_istore_n hx hb dJ18_newCapacity_5 rfl hl (by decide) rfl (fun ls hl => ?_)
  replace hl : lv_has ls 6 [(2, .int (nI cap)), (0, .ref b), (1, .int (nI mn))] := hl
  refine lv_iload_n hx hb dJ18_newCapacity_6 rfl (lv_at hl 2 rfl) ?_
  refine lv_aload_n hx hb dJ18_newCapacity_7 rfl (lv_at hl 1 rfl) ?_
  refine va_get (D := Z.1) (ci := 49) (v := .int 0) (C := RJ19) (T := TJ19) (N := 4) hx hb hts in_J19 hown hE.1 (hM.at hb9) 0 rfl mm_cJ19 1 (by decide) (hts _ q1319) (fun _ h9 => h9) rfl dJ18_newCapacity_8 ?_
  refine lv_ishl hx hb dJ18_newCapacity_11 ?_
  rw [show ((nI mn) <<< ((0 : Int32) &&& 31) : Int32) = nI mn from tb_shl0 _]
  refine lv_istore_n hx hb dJ18_newCapacity_12 rfl hl (by decide) rfl (fun ls hl => ?_)
  replace hl : lv_has ls 6 [(3, .int (nI mn)), (2, .int (nI cap)), (0, .ref b), (1, .int (nI mn))] := hl
  refine lv_iload_n hx hb dJ18_newCapacity_13 rfl (lv_at hl 0 rfl) ?_
  refine lv_iload_n hx hb dJ18_newCapacity_14 rfl (lv_at hl 1 rfl) ?_
  refine lv_isub hx hb dJ18_newCapacity_15 ?_
  rw [show ((nI mn) - (nI cap) : Int32) = nI (mn - cap) from pk_sub (by omega)]
  refine lv_istore hx hb dJ18_newCapacity_16 hl (by decide) rfl (fun ls hl => ?_)
  replace hl : lv_has ls 6 [(4, .int (nI (mn - cap))), (3, .int (nI mn)), (2, .int (nI cap)), (0, .ref b), (1, .int (nI mn))] := hl
  refine lv_iload_n hx hb dJ18_newCapacity_18 rfl (lv_at hl 2 rfl) ?_
  refine lv_iload hx hb dJ18_newCapacity_19 (lv_at hl 0 rfl) ?_
  refine lv_iload_n hx hb dJ18_newCapacity_21 rfl (lv_at hl 2 rfl) ?_
  refine lv_iconst (v := 2) hx hb dJ18_newCapacity_22 (by decide) ?_
  refine lv_aload_n hx hb dJ18_newCapacity_23 rfl (lv_at hl 3 rfl) ?_
  refine va_get (D := Z.1) (ci := 49) (v := .int 0) (C := RJ19) (T := TJ19) (N := 4) hx hb hts in_J19 hown hE.1 (hM.at hb9) 0 rfl mm_cJ19 1 (by decide) (hts _ q1319) (fun _ h9 => h9) rfl dJ18_newCapacity_24 ?_
  refine lv_ishl hx hb dJ18_newCapacity_27 ?_
  rw [show ((2 : Int32) <<< ((0 : Int32) &&& 31) : Int32) = 2 from tb_shl0 _]
  refine lv_iadd hx hb dJ18_newCapacity_28 ?_
  rw [show ((nI cap) + 2 : Int32) = nI (cap + 2) from nI_add cap 2]
  refine mm_callS (As := [.int (nI cap), .int (nI (mn - cap)), .int (nI (cap + 2))]) (rest := []) ⟨hx, hb, hml, hown, hts⟩ hE hST hA (c_J8_newLength l Z (na := cap) (nb := mn - cap) (nc := cap + 2) (by omega) (by omega)) (va_cwS 3 hts (lw_S q1351 q351 q61 q352) rfl rfl rfl (by decide +kernel) ⟨(Nat.le_of_ble_eq_true rfl), (Nat.le_of_ble_eq_true rfl)⟩) hM hS rfl hl.1 (Nat.le_of_ble_eq_true rfl) dJ18_newCapacity_29 rfl ⟨(Nat.le_of_ble_eq_true rfl), (Nat.le_of_ble_eq_true rfl)⟩ (fun _ _ _ _ _ _ h9 => h9.elim) (fun v_1 M_2 H locs hp_3 hM hS => ?_)
  obtain ⟨rfl, eM_2⟩ := hp_3
  rw [eM_2] at hM
  rw [← hnc]
  refine lv_istore hx hb dJ18_newCapacity_32 hl (by decide) rfl (fun ls hl => ?_)
  replace hl : lv_has ls 6 [(5, .int (nI (tb_cap mn cap))), (4, .int (nI (mn - cap))), (3, .int (nI mn)), (2, .int (nI cap)), (0, .ref b), (1, .int (nI mn))] := hl
  refine lv_iload hx hb dJ18_newCapacity_34 (lv_at hl 0 rfl) ?_
  refine lv_ldc (v := 2147483647) hx hb hown (hts _ q1352) dJ18_newCapacity_36 ?_
  refine lv_icmp_ne (tgt := 51) hx hb dJ18_newCapacity_38 (by decide) (fun _ => ?_) (fun h9 => absurd h9 (fun h8 => absurd ((nI_eq (b := 2147483647) (by omega) (by omega)).1 h8) (by omega)))
  refine lv_iload hx hb dJ18_newCapacity_51 (lv_at hl 0 rfl) ?_
  refine lv_aload_n hx hb dJ18_newCapacity_53 rfl (lv_at hl 4 rfl) ?_
  refine va_get (D := Z.1) (ci := 49) (v := .int 0) (C := RJ19) (T := TJ19) (N := 4) hx hb hts in_J19 hown hE.1 (hM.at hb9) 0 rfl mm_cJ19 1 (by decide) (hts _ q1319) (fun _ h9 => h9) rfl dJ18_newCapacity_54 ?_
  refine lv_ishr hx hb dJ18_newCapacity_57 ?_
  rw [show ((nI (tb_cap mn cap)) >>> ((0 : Int32) &&& 31) : Int32) = nI (tb_cap mn cap) from tb_sh0 _]
  exact mm_reti hx hb hr hlk hM hS ⟨rfl, rfl⟩ dJ18_newCapacity_58 (Nat.le_of_ble_eq_true rfl) (Nat.le_of_ble_eq_true rfl)
theorem tb_cap_b {mn cap : Nat} (hc : cap < 2 ^ 18) (hm : mn < 2 ^ 19) : mn ≤ tb_cap mn cap ∧ cap ≤ tb_cap mn cap ∧ tb_cap mn cap < 2 ^ 20 := by
  unfold tb_cap
  by_cases h : mn ≤ cap
  · rw [if_pos h]; omega
  · rw [if_neg h]; omega
/-- a builder with room for mn signs -/
def tb_post (Z : mm_G) (M M' : mm_M) (b ar cap mn : Nat) (cs : List Nat) : Prop := ∃ ar' : Nat, TB Z M' b ar' (tb_cap mn cap) cs ∧ (∀ q : Nat, q ≠ b → q ≠ ar' → M' q = M q) ∧ (ar' = ar ∨ M ar' = none)

set_option maxHeartbeats 4000000 in
set_option maxRecDepth 100000 in
theorem c_J18_ensureCapacityInternal (l : Launch) (Z : mm_G) {M : mm_M} {b ar cap : Nat} {cs : List Nat} (hT9 : TB Z M b ar cap cs) (hc : cap < 2 ^ 18) {mn : Nat} (hm2 : mn < 2 ^ 19) : mm_C l Z yJ18_ensureCapacityInternal (ws_ yJ18_ensureCapacityInternal cJ18_ensureCapacityInternal 3 none) { frames := 3, cells := tb_mk mn cap, slots := tb_ms mn cap, locals := 150 } [.ref b, .int (nI mn)] M (fun v M' => v = none ∧ tb_post Z M M' b ar cap mn cs) mm_nx := by
  refine mm_ofW (cc := cJ18_ensureCapacityInternal) (maxL := 3) (ret := none) (by decide) rfl (Nat.le_of_ble_eq_true rfl) ?_
  intro p e s m below meth c A ls hx hb hr hlk hml hown hmn hts htab hE hST hA hM hS hl
  replace hl : lv_has ls 3 [(0, .ref b), (1, .int (nI mn))] := hl
  obtain ⟨hb9, ha, hlen, hc2, hok⟩ := hT9
  have hbd := tb_cap_b hc hm2
  refine lv_aload_n hx hb dJ18_ensureCapacityInternal_0 rfl (lv_at hl 0 rfl) ?_
  refine va_get (D := Z.1) (ci := 49) (v := .ref ar) (C := RJ19) (T := TJ19) (N := 4) hx hb hts in_J19 hown hE.1 (hM.at hb9) 0 rfl mm_cJ19 0 (by decide) (hts _ q1318) (fun _ h9 => h9) rfl dJ18_ensureCapacityInternal_1 ?_
  refine mm_alen hx hb hE hM 1 ha rfl dJ18_ensureCapacityInternal_4 ?_
  refine lv_aload_n hx hb dJ18_ensureCapacityInternal_5 rfl (lv_at hl 0 rfl) ?_
  refine va_get (D := Z.1) (ci := 49) (v := .int 0) (C := RJ19) (T := TJ19) (N := 4) hx hb hts in_J19 hown hE.1 (hM.at hb9) 0 rfl mm_cJ19 1 (by decide) (hts _ q1319) (fun _ h9 => h9) rfl dJ18_ensureCapacityInternal_6 ?_
  refine lv_ishr hx hb dJ18_ensureCapacityInternal_9 ?_
  rw [show ((nI cap) >>> ((0 : Int32) &&& 31) : Int32) = nI cap from tb_sh0 _]
  refine lv_istore_n hx hb dJ18_ensureCapacityInternal_10 rfl hl (by decide) rfl (fun ls hl => ?_)
  replace hl : lv_has ls 3 [(2, .int (nI cap)), (0, .ref b), (1, .int (nI mn))] := hl
  refine lv_iload_n hx hb dJ18_ensureCapacityInternal_11 rfl (lv_at hl 2 rfl) ?_
  refine lv_iload_n hx hb dJ18_ensureCapacityInternal_12 rfl (lv_at hl 0 rfl) ?_
  refine lv_isub hx hb dJ18_ensureCapacityInternal_13 ?_
  by_cases hmn : mn ≤ cap
  · have hcap : tb_cap mn cap = cap := if_pos hmn
    refine lv_if_le (tgt := 38) hx hb dJ18_ensureCapacityInternal_14 (by decide) (fun _ => ?_) (fun h9 => absurd (pk_sle hmn (by omega)) h9)
    exact mm_retv hx hb hr hlk hM hS ⟨rfl, ar, by rw [hcap]; exact ⟨hb9, ha, hlen, hc2, hok⟩, fun q _ _ => rfl, Or.inl rfl⟩ dJ18_ensureCapacityInternal_38 (Nat.zero_le _) (Nat.zero_le _)
  · have hmk : tb_mk mn cap = 1 := if_neg hmn
    have hms : tb_ms mn cap = tb_cap mn cap := if_neg hmn
    refine lv_if_le (tgt := 38) hx hb dJ18_ensureCapacityInternal_14 (by decide) (fun h9 => absurd h9 (pk_snle (by omega) (by omega))) (fun _ => ?_)
    refine lv_aload_n hx hb dJ18_ensureCapacityInternal_17 rfl (lv_at hl 1 rfl) ?_
    refine lv_aload_n hx hb dJ18_ensureCapacityInternal_18 rfl (lv_at hl 1 rfl) ?_
    refine va_get (D := Z.1) (ci := 49) (v := .ref ar) (C := RJ19) (T := TJ19) (N := 4) hx hb hts in_J19 hown hE.1 (hM.at hb9) 0 rfl mm_cJ19 0 (by decide) (hts _ q1318) (fun _ h9 => h9) rfl dJ18_ensureCapacityInternal_19 ?_
    refine lv_aload_n hx hb dJ18_ensureCapacityInternal_22 rfl (lv_at hl 1 rfl) ?_
    refine lv_iload_n hx hb dJ18_ensureCapacityInternal_23 rfl (lv_at hl 2 rfl) ?_
    refine mm_callU (As := [.int (nI mn)]) (rest := [.ref ar, .ref b]) ⟨hx, hb, hml, hown, hts⟩ hE hST hA (c_J18_newCapacity l Z hb9 ha hlen hc hok (by omega) hm2) (mm_cwP (x := ⟨"java/lang/AbstractStringBuilder", "newCapacity", "(I)I"⟩) (C := RJ19) (owner := "java/lang/AbstractStringBuilder") 1 hts (lw_app (lw_in _ [1347, 2855, 1349, 92] (by decide +kernel) (by decide +kernel)) (lw_meth q1350)) (hE.2.2.2.2.2.2.2 _ (by decide)) rfl rfl rfl rfl (by decide +kernel) ⟨(Nat.le_of_ble_eq_true rfl), (Nat.le_of_ble_eq_true rfl)⟩) hM hS mm_cJ19 hb9 rfl hl.1 (Nat.le_of_ble_eq_true rfl) dJ18_ensureCapacityInternal_24 rfl ⟨(by dsimp only; omega), (by dsimp only; omega)⟩ (fun _ _ _ _ _ _ h9 => h9.elim) (fun v_1 M_2 H locs hp_3 hM hS => ?_)
    obtain ⟨rfl, eM_2⟩ := hp_3
    rw [eM_2] at hM
    refine lv_aload_n hx hb dJ18_ensureCapacityInternal_27 rfl (lv_at hl 1 rfl) ?_
    refine va_get (D := Z.1) (ci := 49) (v := .int 0) (C := RJ19) (T := TJ19) (N := 4) hx hb hts in_J19 hown hE.1 (hM.at hb9) 0 rfl mm_cJ19 1 (by decide) (hts _ q1319) (fun _ h9 => h9) rfl dJ18_ensureCapacityInternal_28 ?_
    refine lv_ishl hx hb dJ18_ensureCapacityInternal_31 ?_
    rw [show ((nI (tb_cap mn cap)) <<< ((0 : Int32) &&& 31) : Int32) = nI (tb_cap mn cap) from tb_shl0 _]
    refine mm_callS (As := [.ref ar, .int (nI (tb_cap mn cap))]) (rest := [.ref b]) ⟨hx, hb, hml, hown, hts⟩ hE hST hA (c_J10_copyOf_3 l Z ha hlen (by omega) (by omega) (by omega) hok) (va_cwS 2 hts (lw_S q1353 q1354 q63 q1355) rfl rfl rfl (by decide +kernel) ⟨(Nat.le_of_ble_eq_true rfl), (Nat.le_of_ble_eq_true rfl)⟩) hM hS rfl hl.1 (Nat.le_of_ble_eq_true rfl) dJ18_ensureCapacityInternal_32 rfl ⟨(by dsimp only; omega), (by dsimp only; omega)⟩ (fun _ _ _ _ _ _ h9 => h9.elim) (fun v_4 M_5 H locs hp_6 hM hS => ?_)
    obtain ⟨q9, hq9, rfl, eM9⟩ := hp_6
    have hne9 : b ≠ q9 := mm_neN hb9 hq9
    have hc9 : M_5 b = some (tb_E ar cs.length) := by rw [eM9, mm_U_ne hne9]; exact hb9
    have hc8 : M_5 q9 = some (tb_A Z (tb_cap mn cap) (tb_f cs)) := by rw [eM9]; exact mm_U_eq
    refine mm_put (D := Z.1) (ci := 49) (v := .ref q9) (ty := .array (.byte)) (C := RJ19) (T := TJ19) (N := 4) hx hb hts in_J19 tyJ19 tyJ19_ok nmJ19 hown hE.1 hM hS hc9 mm_cJ19 0 (by decide) (hts _ q1318) (fun _ h9 => h9) rfl (by decide +kernel) rfl rfl (Nat.le_of_ble_eq_true rfl) dJ18_ensureCapacityInternal_35 (fun H locs hM hS => ?_)
    have hM : mm_P Z.1 mm_cl A (mm_U M_5 b (.inr (49, [.ref q9, .int 0, .int 0, .int (nI cs.length)]))) H := hM
    have hc_7 : (mm_U M_5 b (.inr (49, [.ref q9, .int 0, .int 0, .int (nI cs.length)]))) b = some (.inr (49, [.ref q9, .int 0, .int 0, .int (nI cs.length)])) := mm_U_eq
    have hc_8 : (mm_U M_5 b (.inr (49, [.ref q9, .int 0, .int 0, .int (nI cs.length)]))) q9 = some (.inl (Z.2.1 1, (tb_cap mn cap), .inl (tb_f cs))) := (mm_U_ne (Ne.symm hne9)).trans hc8
    obtain ⟨M_9, eM_9⟩ : ∃ z, z = mm_U M_5 b (.inr (49, [.ref q9, .int 0, .int 0, .int (nI cs.length)])) := ⟨_, rfl⟩
    rw [← eM_9] at hM hc_7 hc_8
    exact mm_retv hx hb hr hlk hM hS ⟨rfl, q9, ⟨hc_7, hc_8, by omega, hbd.2.2, hok⟩, fun q h1 h2 => by rw [eM_9, mm_U_ne h1, eM9, mm_U_ne h2], Or.inr hq9⟩ dJ18_ensureCapacityInternal_38 (by dsimp only; omega) (by dsimp only; omega)
