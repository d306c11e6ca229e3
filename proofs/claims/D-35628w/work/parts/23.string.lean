/-! ===== String; StringBuilder.append(String), append(char), toString ===== -/
set_option maxRecDepth 100000
abbrev st_E (ar : Nat) (h z : Int32) : va_E := .inr (47, [.ref ar, .int 0, .int h, .int z])
/-- s is a String of the signs cs, in the array ar -/
def ST (Z : mm_G) (M : mm_M) (s ar : Nat) (cs : List Nat) : Prop := ∃ h z : Int32, M s = some (st_E ar h z) ∧ M ar = some (tb_A Z cs.length (tb_f cs)) ∧ cs.length < 2 ^ 18 ∧ tb_ok cs
theorem tb_app {cs ds : List Nat} : va_cpy (tb_f ds) (tb_f cs) 0 cs.length ds.length = tb_f (cs ++ ds) := by
  funext i
  unfold va_cpy tb_f
  by_cases h1 : i < cs.length
  · rw [if_neg (by omega)]
    simp [List.getD_eq_getElem?_getD, List.getElem?_append_left h1]
  · by_cases h2 : i < cs.length + ds.length
    · rw [if_pos (by omega)]
      simp [List.getD_eq_getElem?_getD, List.getElem?_append_right (Nat.le_of_not_lt h1)]
    · rw [if_neg (by omega), List.getD_eq_getElem?_getD, List.getD_eq_getElem?_getD, List.getElem?_eq_none (by omega), List.getElem?_eq_none (by simp; omega)]
theorem tb_ok_app {cs ds : List Nat} (h1 : tb_ok cs) (h2 : tb_ok ds) : tb_ok (cs ++ ds) := fun x hx => (List.mem_append.1 hx).elim (h1 x) (h2 x)
theorem tb_post.keep {Z : mm_G} {M M' : mm_M} {b ar cap mn : Nat} {cs : List Nat} (h : tb_post Z M M' b ar cap mn cs) {q : Nat} {e : va_E} (hq : M q = some e) (h1 : q ≠ b) (h2 : q ≠ ar) : M' q = some e := by
  obtain ⟨ar', -, hk, ho⟩ := h
  by_cases h3 : q = ar'
  · rcases ho with ho | ho
    · exact absurd (h3.trans ho) h2
    · rw [h3, ho] at hq; cases hq
  · rw [hk q h1 h3]; exact hq
theorem tb_post.trans {Z : mm_G} {M M' M2 : mm_M} {b ar cap mn : Nat} {ds : List Nat} {ar' : Nat} (ho : ar' = ar ∨ M ar' = none) (hk : ∀ q : Nat, q ≠ b → q ≠ ar' → M' q = M q) (hT : TB Z M2 b ar' (tb_cap mn cap) ds) (hk2 : ∀ q : Nat, q ≠ b → q ≠ ar' → M2 q = M' q) : tb_post Z M M2 b ar cap mn ds :=
  ⟨ar', hT, fun q h1 h2 => (hk2 q h1 h2).trans (hk q h1 h2), ho⟩
theorem tb_shlN (x : Int32) : x <<< ((0 : Int32) &&& 31) = x := tb_shl0 x

set_option maxHeartbeats 4000000 in
set_option maxRecDepth 100000 in
theorem c_J13_coder (l : Launch) (Z : mm_G) {M : mm_M} {sa sar : Nat} {ds : List Nat} (hS9 : ST Z M sa sar ds) : mm_C l Z yJ13_coder (ws_ yJ13_coder cJ13_coder 1 (some .byte)) { frames := 0, cells := 0, slots := 0, locals := 0 } [.ref sa] M (fun v M' => v = some (.int 0) ∧ M' = M) mm_nx := by
  refine mm_ofW (cc := cJ13_coder) (maxL := 1) (ret := (some .byte)) (by decide) rfl (Nat.le_of_ble_eq_true rfl) ?_
  intro p e s m below meth c A ls hx hb hr hlk hml hown hmn hts htab hE hST hA hM hS hl
  replace hl : lv_has ls 1 [(0, .ref sa)] := hl
  obtain ⟨hh9, hz9, hs9, hsa9, hsl9, hso9⟩ := hS9
  refine va_gets hx hb (hST.1 _ (List.mem_of_getElem? (i := 6) rfl)) hS hown (hts _ q792) (fun _ h9 => h9) dJ13_coder_0 ?_
  refine lv_if_eq (tgt := 13) hx hb dJ13_coder_3 (by decide) (fun h9 => absurd h9 (by decide : (1 : Int32) ≠ 0)) (fun _ => ?_)
  refine lv_aload_n hx hb dJ13_coder_6 rfl (lv_at hl 0 rfl) ?_
  refine va_get (D := Z.1) (ci := 47) (v := .int 0) (C := RJ13) (T := TJ13) (N := 4) hx hb hts in_J13 hown hE.1 (hM.at hs9) 0 rfl mm_cJ13 1 (by decide) (hts _ q1522) (fun _ h9 => h9) rfl dJ13_coder_7 ?_
  refine lv_goto (tgt := 14) hx hb dJ13_coder_10 (by decide) ?_
  exact mm_retz hx hb hr rfl hlk hM hS ⟨rfl, rfl⟩ dJ13_coder_14 (Nat.le_of_ble_eq_true rfl) (Nat.le_of_ble_eq_true rfl)
set_option maxHeartbeats 4000000 in
set_option maxRecDepth 100000 in
theorem c_J13_length (l : Launch) (Z : mm_G) {M : mm_M} {sa sar : Nat} {ds : List Nat} (hS9 : ST Z M sa sar ds) : mm_C l Z yJ13_length (ws_ yJ13_length cJ13_length 1 (some .int)) { frames := 1, cells := 0, slots := 0, locals := 40 } [.ref sa] M (fun v M' => v = some (.int (nI ds.length)) ∧ M' = M) mm_nx := by
  refine mm_ofW (cc := cJ13_length) (maxL := 1) (ret := (some .int)) (by decide) rfl (Nat.le_of_ble_eq_true rfl) ?_
  intro p e s m below meth c A ls hx hb hr hlk hml hown hmn hts htab hE hST hA hM hS hl
  replace hl : lv_has ls 1 [(0, .ref sa)] := hl
  have hS8 := hS9
  obtain ⟨hh9, hz9, hs9, hsa9, hsl9, hso9⟩ := hS9
  refine lv_aload_n hx hb dJ13_length_0 rfl (lv_at hl 0 rfl) ?_
  refine va_get (D := Z.1) (ci := 47) (v := .ref sar) (C := RJ13) (T := TJ13) (N := 4) hx hb hts in_J13 hown hE.1 (hM.at hs9) 0 rfl mm_cJ13 0 (by decide) (hts _ q1521) (fun _ h9 => h9) rfl dJ13_length_1 ?_
  refine mm_alen hx hb hE hM 1 hsa9 rfl dJ13_length_4 ?_
  refine lv_aload_n hx hb dJ13_length_5 rfl (lv_at hl 0 rfl) ?_
  refine mm_callV (As := []) (rest := [.int (nI ds.length)]) ⟨hx, hb, hml, hown, hts⟩ hE hST hA (c_J13_coder l Z hS8) (cwV 0 hts (lw_V q1398 q1399 q1400 q67 q1401) rfl rfl rfl (by decide +kernel) ⟨(Nat.le_of_ble_eq_true rfl), (Nat.le_of_ble_eq_true rfl)⟩) hM hS mm_cJ13 hs9 rfl hl.1 (Nat.le_of_ble_eq_true rfl) dJ13_length_6 rfl ⟨(Nat.le_of_ble_eq_true rfl), (Nat.le_of_ble_eq_true rfl)⟩ (fun _ _ _ _ _ _ h9 => h9.elim) (fun v_1 M_2 H locs hp_3 hM hS => ?_)
  obtain ⟨rfl, eM_2⟩ := hp_3
  rw [eM_2] at hM
  refine lv_ishr hx hb dJ13_length_9 ?_
  rw [show ((nI ds.length) >>> ((0 : Int32) &&& 31) : Int32) = nI ds.length from tb_sh0 _]
  exact mm_reti hx hb hr hlk hM hS ⟨rfl, rfl⟩ dJ13_length_10 (Nat.le_of_ble_eq_true rfl) (Nat.le_of_ble_eq_true rfl)
set_option maxHeartbeats 4000000 in
set_option maxRecDepth 100000 in
theorem c_J18_isLatin1 (l : Launch) (Z : mm_G) {M : mm_M} {b ar cap : Nat} {cs : List Nat} (hT9 : TB Z M b ar cap cs) : mm_C l Z yJ18_isLatin1 (ws_ yJ18_isLatin1 cJ18_isLatin1 1 (some .boolean)) { frames := 0, cells := 0, slots := 0, locals := 0 } [.ref b] M (fun v M' => v = some (.int 1) ∧ M' = M) mm_nx := by
  refine mm_ofW (cc := cJ18_isLatin1) (maxL := 1) (ret := (some .boolean)) (by decide) rfl (Nat.le_of_ble_eq_true rfl) ?_
  intro p e s m below meth c A ls hx hb hr hlk hml hown hmn hts htab hE hST hA hM hS hl
  replace hl : lv_has ls 1 [(0, .ref b)] := hl
  obtain ⟨hb9, ha, hlen, hc2, hok⟩ := hT9
  refine va_gets hx hb (hST.1 _ (List.mem_of_getElem? (i := 6) rfl)) hS hown (hts _ q1310) (fun _ h9 => h9) dJ18_isLatin1_0 ?_
  refine lv_if_eq (tgt := 17) hx hb dJ18_isLatin1_3 (by decide) (fun h9 => absurd h9 (by decide : (1 : Int32) ≠ 0)) (fun _ => ?_)
  refine lv_aload_n hx hb dJ18_isLatin1_6 rfl (lv_at hl 0 rfl) ?_
  refine va_get (D := Z.1) (ci := 49) (v := .int 0) (C := RJ19) (T := TJ19) (N := 4) hx hb hts in_J19 hown hE.1 (hM.at hb9) 0 rfl mm_cJ19 1 (by decide) (hts _ q1319) (fun _ h9 => h9) rfl dJ18_isLatin1_7 ?_
  refine lv_if_ne (tgt := 17) hx hb dJ18_isLatin1_10 (by decide) (fun h9 => absurd rfl h9) (fun _ => ?_)
  refine lv_iconst (v := 1) hx hb dJ18_isLatin1_13 (by decide) ?_
  refine lv_goto (tgt := 18) hx hb dJ18_isLatin1_14 (by decide) ?_
  exact mm_retz hx hb hr rfl hlk hM hS ⟨rfl, rfl⟩ dJ18_isLatin1_18 (Nat.le_of_ble_eq_true rfl) (Nat.le_of_ble_eq_true rfl)
set_option maxHeartbeats 4000000 in
set_option maxRecDepth 100000 in
theorem c_J18_inflateIfNeededFor (l : Launch) (Z : mm_G) {M : mm_M} {b ar cap : Nat} {cs : List Nat} (hT9 : TB Z M b ar cap cs) {sa sar : Nat} {ds : List Nat} (hS9 : ST Z M sa sar ds) : mm_C l Z yJ18_inflateIfNeededFor (ws_ yJ18_inflateIfNeededFor cJ18_inflateIfNeededFor 2 none) { frames := 1, cells := 0, slots := 0, locals := 40 } [.ref b, .ref sa] M (fun v M' => v = none ∧ M' = M) mm_nx := by
  refine mm_ofW (cc := cJ18_inflateIfNeededFor) (maxL := 2) (ret := none) (by decide) rfl (Nat.le_of_ble_eq_true rfl) ?_
  intro p e s m below meth c A ls hx hb hr hlk hml hown hmn hts htab hE hST hA hM hS hl
  replace hl : lv_has ls 2 [(0, .ref b), (1, .ref sa)] := hl
  have hS8 := hS9
  obtain ⟨hb9, ha, hlen, hc2, hok⟩ := hT9
  obtain ⟨hh9, hz9, hs9, hsa9, hsl9, hso9⟩ := hS9
  refine va_gets hx hb (hST.1 _ (List.mem_of_getElem? (i := 6) rfl)) hS hown (hts _ q1310) (fun _ h9 => h9) dJ18_inflateIfNeededFor_0 ?_
  refine lv_if_eq (tgt := 21) hx hb dJ18_inflateIfNeededFor_3 (by decide) (fun h9 => absurd h9 (by decide : (1 : Int32) ≠ 0)) (fun _ => ?_)
  refine lv_aload_n hx hb dJ18_inflateIfNeededFor_6 rfl (lv_at hl 0 rfl) ?_
  refine va_get (D := Z.1) (ci := 49) (v := .int 0) (C := RJ19) (T := TJ19) (N := 4) hx hb hts in_J19 hown hE.1 (hM.at hb9) 0 rfl mm_cJ19 1 (by decide) (hts _ q1319) (fun _ h9 => h9) rfl dJ18_inflateIfNeededFor_7 ?_
  refine lv_aload_n hx hb dJ18_inflateIfNeededFor_10 rfl (lv_at hl 1 rfl) ?_
  refine mm_callV (As := []) (rest := [.int 0]) ⟨hx, hb, hml, hown, hts⟩ hE hST hA (c_J13_coder l Z hS8) (cwV 0 hts (lw_V q1410 q1399 q1400 q67 q1401) rfl rfl rfl (by decide +kernel) ⟨(Nat.le_of_ble_eq_true rfl), (Nat.le_of_ble_eq_true rfl)⟩) hM hS mm_cJ13 hs9 rfl hl.1 (Nat.le_of_ble_eq_true rfl) dJ18_inflateIfNeededFor_11 rfl ⟨(Nat.le_of_ble_eq_true rfl), (Nat.le_of_ble_eq_true rfl)⟩ (fun _ _ _ _ _ _ h9 => h9.elim) (fun v_1 M_2 H locs hp_3 hM hS => ?_)
  obtain ⟨rfl, eM_2⟩ := hp_3
  rw [eM_2] at hM
  refine lv_icmp_eq (tgt := 21) hx hb dJ18_inflateIfNeededFor_14 (by decide) (fun _ => ?_) (fun h9 => absurd rfl h9)
  exact mm_retv hx hb hr hlk hM hS ⟨rfl, rfl⟩ dJ18_inflateIfNeededFor_21 (Nat.le_of_ble_eq_true rfl) (Nat.le_of_ble_eq_true rfl)
set_option maxHeartbeats 4000000 in
set_option maxRecDepth 100000 in
theorem c_J13_getBytes (l : Launch) (Z : mm_G) {M : mm_M} {sa sar : Nat} {ds : List Nat} (hS9 : ST Z M sa sar ds) {ar cap k : Nat} {cs : List Nat} (ha : M ar = some (tb_A Z cap (tb_f cs))) (hc : cap < 2 ^ 20) (hne : sar ≠ ar) (hk : cs.length + ds.length ≤ cap) : mm_C l Z yJ13_getBytes (ws_ yJ13_getBytes cJ13_getBytes 4 none) { frames := 1, cells := 0, slots := 0, locals := 60 } [.ref sa, .ref ar, .int (nI cs.length), .int 0] M (fun v M' => v = none ∧ M' = mm_U M ar (tb_A Z cap (tb_f (cs ++ ds)))) mm_nx := by
  refine mm_ofW (cc := cJ13_getBytes) (maxL := 4) (ret := none) (by decide) rfl (Nat.le_of_ble_eq_true rfl) ?_
  intro p e s m below meth c A ls hx hb hr hlk hml hown hmn hts htab hE hST hA hM hS hl
  replace hl : lv_has ls 4 [(0, .ref sa), (1, .ref ar), (2, .int (nI cs.length)), (3, .int 0)] := hl
  have hS8 := hS9
  obtain ⟨hh9, hz9, hs9, hsa9, hsl9, hso9⟩ := hS9
  refine lv_aload_n hx hb dJ13_getBytes_0 rfl (lv_at hl 0 rfl) ?_
  refine mm_callV (As := []) (rest := []) ⟨hx, hb, hml, hown, hts⟩ hE hST hA (c_J13_coder l Z hS8) (cwV 0 hts (lw_V q1398 q1399 q1400 q67 q1401) rfl rfl rfl (by decide +kernel) ⟨(Nat.le_of_ble_eq_true rfl), (Nat.le_of_ble_eq_true rfl)⟩) hM hS mm_cJ13 hs9 rfl hl.1 (Nat.le_of_ble_eq_true rfl) dJ13_getBytes_1 rfl ⟨(Nat.le_of_ble_eq_true rfl), (Nat.le_of_ble_eq_true rfl)⟩ (fun _ _ _ _ _ _ h9 => h9.elim) (fun v_1 M_2 H locs hp_3 hM hS => ?_)
  obtain ⟨rfl, eM_2⟩ := hp_3
  rw [eM_2] at hM
  refine lv_iload_n hx hb dJ13_getBytes_4 rfl (lv_at hl 3 rfl) ?_
  refine lv_icmp_ne (tgt := 28) hx hb dJ13_getBytes_5 (by decide) (fun h9 => absurd rfl h9) (fun _ => ?_)
  refine lv_aload_n hx hb dJ13_getBytes_8 rfl (lv_at hl 0 rfl) ?_
  refine va_get (D := Z.1) (ci := 47) (v := .ref sar) (C := RJ13) (T := TJ13) (N := 4) hx hb hts in_J13 hown hE.1 (hM.at hs9) 0 rfl mm_cJ13 0 (by decide) (hts _ q1521) (fun _ h9 => h9) rfl dJ13_getBytes_9 ?_
  refine lv_iconst (v := 0) hx hb dJ13_getBytes_12 (by decide) ?_
  refine lv_aload_n hx hb dJ13_getBytes_13 rfl (lv_at hl 1 rfl) ?_
  refine lv_iload_n hx hb dJ13_getBytes_14 rfl (lv_at hl 2 rfl) ?_
  refine lv_iload_n hx hb dJ13_getBytes_15 rfl (lv_at hl 3 rfl) ?_
  refine lv_ishl hx hb dJ13_getBytes_16 ?_
  rw [show ((nI cs.length) <<< ((0 : Int32) &&& 31) : Int32) = nI cs.length from tb_shl0 _]
  refine lv_aload_n hx hb dJ13_getBytes_17 rfl (lv_at hl 0 rfl) ?_
  refine va_get (D := Z.1) (ci := 47) (v := .ref sar) (C := RJ13) (T := TJ13) (N := 4) hx hb hts in_J13 hown hE.1 (hM.at hs9) 0 rfl mm_cJ13 0 (by decide) (hts _ q1521) (fun _ h9 => h9) rfl dJ13_getBytes_18 ?_
  refine mm_alen hx hb hE hM 1 hsa9 rfl dJ13_getBytes_21 ?_
  refine mm_copyB (kS := 0) (kD := cs.length) (kN := ds.length) hx hb (hml.trans hl.1.symm) hown (hts _ q1434) (hts _ q431) (hts _ q430) (hts _ q64) hE hM hS hsa9 ha rfl rfl rfl (by omega) (by omega) (by omega) (by omega) (fun i _ => tb_fit hso9 _) (Nat.le_of_ble_eq_true rfl) (Nat.le_of_ble_eq_true rfl) dJ13_getBytes_22 (fun H locs hM hS => ?_)
  rw [show va_cpy (tb_f ds) (tb_f cs) 0 cs.length ds.length = tb_f (cs ++ ds) from tb_app] at hM
  have hM : mm_P Z.1 mm_cl A (mm_U M ar (.inl (Z.2.1 1, cap, .inl (tb_f (cs ++ ds))))) H := hM
  have hc_4 : (mm_U M ar (.inl (Z.2.1 1, cap, .inl (tb_f (cs ++ ds))))) ar = some (.inl (Z.2.1 1, cap, .inl (tb_f (cs ++ ds)))) := mm_U_eq
  have hc_5 : (mm_U M ar (.inl (Z.2.1 1, cap, .inl (tb_f (cs ++ ds))))) sa = some (.inr (47, [.ref sar, .int 0, .int hh9, .int hz9])) := (mm_U_ne (Ne.symm (mm_neA ha hs9))).trans hs9
  have hc_6 : (mm_U M ar (.inl (Z.2.1 1, cap, .inl (tb_f (cs ++ ds))))) sar = some (.inl (Z.2.1 1, ds.length, .inl (tb_f ds))) := (mm_U_ne hne).trans hsa9
  obtain ⟨M_7, eM_7⟩ : ∃ z, z = mm_U M ar (.inl (Z.2.1 1, cap, .inl (tb_f (cs ++ ds)))) := ⟨_, rfl⟩
  rw [← eM_7] at hM hc_5 hc_6 hc_4
  refine lv_goto (tgt := 43) hx hb dJ13_getBytes_25 (by decide) ?_
  exact mm_retv hx hb hr hlk hM hS ⟨rfl, eM_7⟩ dJ13_getBytes_43 (Nat.le_of_ble_eq_true rfl) (Nat.le_of_ble_eq_true rfl)
set_option maxHeartbeats 4000000 in
set_option maxRecDepth 100000 in
theorem c_J18_putStringAt (l : Launch) (Z : mm_G) {M : mm_M} {b ar cap : Nat} {cs : List Nat} (hT9 : TB Z M b ar cap cs) {sa sar : Nat} {ds : List Nat} (hS9 : ST Z M sa sar ds) (hne : sar ≠ ar) (hk : cs.length + ds.length ≤ cap) : mm_C l Z yJ18_putStringAt (ws_ yJ18_putStringAt cJ18_putStringAt 3 none) { frames := 2, cells := 0, slots := 0, locals := 100 } [.ref b, .int (nI cs.length), .ref sa] M (fun v M' => v = none ∧ M' = mm_U M ar (tb_A Z cap (tb_f (cs ++ ds)))) mm_nx := by
  refine mm_ofW (cc := cJ18_putStringAt) (maxL := 3) (ret := none) (by decide) rfl (Nat.le_of_ble_eq_true rfl) ?_
  intro p e s m below meth c A ls hx hb hr hlk hml hown hmn hts htab hE hST hA hM hS hl
  replace hl : lv_has ls 3 [(0, .ref b), (1, .int (nI cs.length)), (2, .ref sa)] := hl
  have hS8 := hS9
  have hT8 := hT9
  obtain ⟨hb9, ha, hlen, hc2, hok⟩ := hT9
  obtain ⟨hh9, hz9, hs9, hsa9, hsl9, hso9⟩ := hS9
  refine lv_aload_n hx hb dJ18_putStringAt_0 rfl (lv_at hl 0 rfl) ?_
  refine lv_aload_n hx hb dJ18_putStringAt_1 rfl (lv_at hl 2 rfl) ?_
  refine mm_callU (As := [.ref sa]) (rest := []) ⟨hx, hb, hml, hown, hts⟩ hE hST hA (c_J18_inflateIfNeededFor l Z hT8 hS8) (mm_cwP (x := ⟨"java/lang/AbstractStringBuilder", "inflateIfNeededFor", "(Ljava/lang/String;)V"⟩) (C := RJ19) (owner := "java/lang/AbstractStringBuilder") 1 hts (lw_app (lw_in _ [1406, 2857, 1408, 92] (by decide +kernel) (by decide +kernel)) (lw_meth q1409)) (hE.2.2.2.2.2.2.2 _ (by decide)) rfl rfl rfl rfl (by decide +kernel) ⟨(Nat.le_of_ble_eq_true rfl), (Nat.le_of_ble_eq_true rfl)⟩) hM hS mm_cJ19 hb9 rfl hl.1 (Nat.le_of_ble_eq_true rfl) dJ18_putStringAt_2 rfl ⟨(Nat.le_of_ble_eq_true rfl), (Nat.le_of_ble_eq_true rfl)⟩ (fun _ _ _ _ _ _ h9 => h9.elim) (fun v_1 M_2 H locs hp_3 hM hS => ?_)
  obtain ⟨rfl, eM_2⟩ := hp_3
  rw [eM_2] at hM
  refine lv_aload_n hx hb dJ18_putStringAt_5 rfl (lv_at hl 2 rfl) ?_
  refine lv_aload_n hx hb dJ18_putStringAt_6 rfl (lv_at hl 0 rfl) ?_
  refine va_get (D := Z.1) (ci := 49) (v := .ref ar) (C := RJ19) (T := TJ19) (N := 4) hx hb hts in_J19 hown hE.1 (hM.at hb9) 0 rfl mm_cJ19 0 (by decide) (hts _ q1318) (fun _ h9 => h9) rfl dJ18_putStringAt_7 ?_
  refine lv_iload_n hx hb dJ18_putStringAt_10 rfl (lv_at hl 1 rfl) ?_
  refine lv_aload_n hx hb dJ18_putStringAt_11 rfl (lv_at hl 0 rfl) ?_
  refine va_get (D := Z.1) (ci := 49) (v := .int 0) (C := RJ19) (T := TJ19) (N := 4) hx hb hts in_J19 hown hE.1 (hM.at hb9) 0 rfl mm_cJ19 1 (by decide) (hts _ q1319) (fun _ h9 => h9) rfl dJ18_putStringAt_12 ?_
  refine mm_callV (As := [.ref ar, .int (nI cs.length), .int 0]) (rest := []) ⟨hx, hb, hml, hown, hts⟩ hE hST hA (c_J13_getBytes l Z (k := 0) hS8 ha hc2 hne hk) (cwV 3 hts (lw_V q1430 q1431 q1432 q67 q1433) rfl rfl rfl (by decide +kernel) ⟨(Nat.le_of_ble_eq_true rfl), (Nat.le_of_ble_eq_true rfl)⟩) hM hS mm_cJ13 hs9 rfl hl.1 (Nat.le_of_ble_eq_true rfl) dJ18_putStringAt_15 rfl ⟨(Nat.le_of_ble_eq_true rfl), (Nat.le_of_ble_eq_true rfl)⟩ (fun _ _ _ _ _ _ h9 => h9.elim) (fun v_4 M_5 H locs hp_6 hM hS => ?_)
  obtain ⟨rfl, eM_5⟩ := hp_6
  exact mm_retv hx hb hr hlk hM hS ⟨rfl, eM_5⟩ dJ18_putStringAt_18 (Nat.le_of_ble_eq_true rfl) (Nat.le_of_ble_eq_true rfl)
theorem tb_ne1 {M : mm_M} {ar ar1 q : Nat} {e : va_E} (hq : M q = some e) (ho : ar1 = ar ∨ M ar1 = none) (h : q ≠ ar) : q ≠ ar1 := by
  rcases ho with ho | ho
  · rw [ho]; exact h
  · exact fun h9 => by rw [h9, ho] at hq; cases hq

set_option maxHeartbeats 4000000 in
set_option maxRecDepth 100000 in
theorem c_J18_append (l : Launch) (Z : mm_G) {M : mm_M} {b ar cap : Nat} {cs : List Nat} (hT9 : TB Z M b ar cap cs) (hc : cap < 2 ^ 18) {sa sar : Nat} {ds : List Nat} (hS9 : ST Z M sa sar ds) (hne : sar ≠ ar) : mm_C l Z yJ18_append (ws_ yJ18_append cJ18_append 3 (some (.object "java/lang/AbstractStringBuilder"))) { frames := 4, cells := tb_mk (cs.length + ds.length) cap, slots := tb_ms (cs.length + ds.length) cap, locals := 220 } [.ref b, .ref sa] M (fun v M' => v = some (.ref b) ∧ tb_post Z M M' b ar cap (cs.length + ds.length) (cs ++ ds)) mm_nx := by
  refine mm_ofW (cc := cJ18_append) (maxL := 3) (ret := (some (.object "java/lang/AbstractStringBuilder"))) (by decide) rfl (Nat.le_of_ble_eq_true rfl) ?_
  intro p e s m below meth c A ls hx hb hr hlk hml hown hmn hts htab hE hST hA hM hS hl
  replace hl : lv_has ls 3 [(0, .ref b), (1, .ref sa)] := hl
  have hS8 := hS9
  have hT8 := hT9
  have hbd := tb_cap_b (mn := cs.length + ds.length) hc (by have := hS9.choose_spec.choose_spec.2.2.1; have := hT9.2.2.1; omega)
  obtain ⟨hb9, ha, hlen, hc2, hok⟩ := hT9
  obtain ⟨hh9, hz9, hs9, hsa9, hsl9, hso9⟩ := hS9
  refine lv_aload_n hx hb dJ18_append_0 rfl (lv_at hl 1 rfl) ?_
  refine lv_ifnonnull (tgt := 9) hx hb dJ18_append_1 (by decide) ?_
  refine lv_aload_n hx hb dJ18_append_9 rfl (lv_at hl 1 rfl) ?_
  refine mm_callV (As := []) (rest := []) ⟨hx, hb, hml, hown, hts⟩ hE hST hA (c_J13_length l Z hS8) (cwV 0 hts (lw_V q1394 q1395 q1396 q67 q1397) rfl rfl rfl (by decide +kernel) ⟨(Nat.le_of_ble_eq_true rfl), (Nat.le_of_ble_eq_true rfl)⟩) hM hS mm_cJ13 hs9 rfl hl.1 (Nat.le_of_ble_eq_true rfl) dJ18_append_10 rfl ⟨(Nat.le_of_ble_eq_true rfl), (Nat.le_of_ble_eq_true rfl)⟩ (fun _ _ _ _ _ _ h9 => h9.elim) (fun v_1 M_2 H locs hp_3 hM hS => ?_)
  obtain ⟨rfl, eM_2⟩ := hp_3
  rw [eM_2] at hM
  refine lv_istore_n hx hb dJ18_append_13 rfl hl (by decide) rfl (fun ls hl => ?_)
  replace hl : lv_has ls 3 [(2, .int (nI ds.length)), (0, .ref b), (1, .ref sa)] := hl
  refine lv_aload_n hx hb dJ18_append_14 rfl (lv_at hl 1 rfl) ?_
  refine lv_aload_n hx hb dJ18_append_15 rfl (lv_at hl 1 rfl) ?_
  refine va_get (D := Z.1) (ci := 49) (v := .int (nI cs.length)) (C := RJ19) (T := TJ19) (N := 4) hx hb hts in_J19 hown hE.1 (hM.at hb9) 0 rfl mm_cJ19 3 (by decide) (hts _ q1321) (fun _ h9 => h9) rfl dJ18_append_16 ?_
  refine lv_iload_n hx hb dJ18_append_19 rfl (lv_at hl 0 rfl) ?_
  refine lv_iadd hx hb dJ18_append_20 ?_
  rw [show ((nI cs.length) + (nI ds.length) : Int32) = nI (cs.length + ds.length) from nI_add _ _]
  refine mm_callU (As := [.int (nI (cs.length + ds.length))]) (rest := []) ⟨hx, hb, hml, hown, hts⟩ hE hST hA (c_J18_ensureCapacityInternal l Z hT8 hc (mn := cs.length + ds.length) (by omega)) (mm_cwP (x := ⟨"java/lang/AbstractStringBuilder", "ensureCapacityInternal", "(I)V"⟩) (C := RJ19) (owner := "java/lang/AbstractStringBuilder") 1 hts (lw_app (lw_in _ [1343, 2854, 1345, 92] (by decide +kernel) (by decide +kernel)) (lw_meth q1346)) (hE.2.2.2.2.2.2.2 _ (by decide)) rfl rfl rfl rfl (by decide +kernel) ⟨(Nat.le_of_ble_eq_true rfl), (Nat.le_of_ble_eq_true rfl)⟩) hM hS mm_cJ19 hb9 rfl hl.1 (Nat.le_of_ble_eq_true rfl) dJ18_append_21 rfl ⟨(by dsimp only; omega), (by dsimp only; omega)⟩ (fun _ _ _ _ _ _ h9 => h9.elim) (fun v_4 M_5 H locs hp_6 hM hS => ?_)
  obtain ⟨rfl, hp9⟩ := hp_6
  have hk_7 : M_5 sa = some (.inr (47, [.ref sar, .int 0, .int hh9, .int hz9])) := tb_post.keep hp9 hs9 (mm_neC hs9 hb9 (by decide)) (Ne.symm (mm_neA ha hs9))
  have hk_8 : M_5 sar = some (.inl (Z.2.1 1, ds.length, .inl (tb_f ds))) := tb_post.keep hp9 hsa9 (mm_neA hsa9 hb9) hne
  obtain ⟨ar1, hT1, hk1, ho1⟩ := hp9
  have hT2 := hT1
  obtain ⟨hb1, ha1, hlen1, hcc1, hok1⟩ := hT1
  have hne1 : sar ≠ ar1 := tb_ne1 hsa9 ho1 hne
  have hS7 : ST Z M_5 sa sar ds := ⟨hh9, hz9, hk_7, hk_8, hsl9, hso9⟩
  refine lv_aload_n hx hb dJ18_append_24 rfl (lv_at hl 1 rfl) ?_
  refine lv_aload_n hx hb dJ18_append_25 rfl (lv_at hl 1 rfl) ?_
  refine va_get (D := Z.1) (ci := 49) (v := .int (nI cs.length)) (C := RJ19) (T := TJ19) (N := 4) hx hb hts in_J19 hown hE.1 (hM.at hb1) 0 rfl mm_cJ19 3 (by decide) (hts _ q1321) (fun _ h9 => h9) rfl dJ18_append_26 ?_
  refine lv_aload_n hx hb dJ18_append_29 rfl (lv_at hl 2 rfl) ?_
  refine mm_callU (As := [.int (nI cs.length), .ref sa]) (rest := []) ⟨hx, hb, hml, hown, hts⟩ hE hST hA (c_J18_putStringAt l Z hT2 hS7 hne1 hbd.1) (mm_cwP (x := ⟨"java/lang/AbstractStringBuilder", "putStringAt", "(ILjava/lang/String;)V"⟩) (C := RJ19) (owner := "java/lang/AbstractStringBuilder") 2 hts (lw_app (lw_in _ [1402, 2856, 1404, 92] (by decide +kernel) (by decide +kernel)) (lw_meth q1405)) (hE.2.2.2.2.2.2.2 _ (by decide)) rfl rfl rfl rfl (by decide +kernel) ⟨(Nat.le_of_ble_eq_true rfl), (Nat.le_of_ble_eq_true rfl)⟩) hM hS mm_cJ19 hb1 rfl hl.1 (Nat.le_of_ble_eq_true rfl) dJ18_append_30 rfl ⟨(by dsimp only; omega), (by dsimp only; omega)⟩ (fun _ _ _ _ _ _ h9 => h9.elim) (fun v_9 M_10 H locs hp_11 hM hS => ?_)
  obtain ⟨rfl, eM_10⟩ := hp_11
  have hk_12 : M_10 b = some (.inr (49, [.ref ar1, .int 0, .int 0, .int (nI cs.length)])) := by rw [eM_10, mm_U_ne (Ne.symm (mm_neA ha1 hb1))]; exact hb1
  have hk_13 : M_10 sa = some (.inr (47, [.ref sar, .int 0, .int hh9, .int hz9])) := by rw [eM_10, mm_U_ne (Ne.symm (mm_neA ha1 hk_7))]; exact hk_7
  have hk_14 : M_10 sar = some (.inl (Z.2.1 1, ds.length, .inl (tb_f ds))) := by rw [eM_10, mm_U_ne hne1]; exact hk_8
  have hk_15 : M_10 ar1 = some (.inl (Z.2.1 1, (tb_cap (cs.length + ds.length) cap), .inl (tb_f (cs ++ ds)))) := by rw [eM_10]; exact mm_U_eq
  refine lv_aload_n hx hb dJ18_append_33 rfl (lv_at hl 1 rfl) ?_
  refine lv_dup hx hb dJ18_append_34 rfl ?_
  refine va_get (D := Z.1) (ci := 49) (v := .int (nI cs.length)) (C := RJ19) (T := TJ19) (N := 4) hx hb hts in_J19 hown hE.1 (hM.at hk_12) 0 rfl mm_cJ19 3 (by decide) (hts _ q1321) (fun _ h9 => h9) rfl dJ18_append_35 ?_
  refine lv_iload_n hx hb dJ18_append_38 rfl (lv_at hl 0 rfl) ?_
  refine lv_iadd hx hb dJ18_append_39 ?_
  rw [show ((nI cs.length) + (nI ds.length) : Int32) = nI (cs.length + ds.length) from nI_add _ _]
  refine mm_put (D := Z.1) (ci := 49) (v := .int (nI (cs.length + ds.length))) (ty := .int) (C := RJ19) (T := TJ19) (N := 4) hx hb hts in_J19 tyJ19 tyJ19_ok nmJ19 hown hE.1 hM hS hk_12 mm_cJ19 3 (by decide) (hts _ q1321) (fun _ h9 => h9) rfl (by decide +kernel) rfl rfl (Nat.le_of_ble_eq_true rfl) dJ18_append_40 (fun H locs hM hS => ?_)
  have hM : mm_P Z.1 mm_cl A (mm_U M_10 b (.inr (49, [.ref ar1, .int 0, .int 0, .int (nI (cs.length + ds.length))]))) H := hM
  have hc_16 : (mm_U M_10 b (.inr (49, [.ref ar1, .int 0, .int 0, .int (nI (cs.length + ds.length))]))) b = some (.inr (49, [.ref ar1, .int 0, .int 0, .int (nI (cs.length + ds.length))])) := mm_U_eq
  have hc_17 : (mm_U M_10 b (.inr (49, [.ref ar1, .int 0, .int 0, .int (nI (cs.length + ds.length))]))) sa = some (.inr (47, [.ref sar, .int 0, .int hh9, .int hz9])) := (mm_U_ne (mm_neC hk_13 hk_12 (by decide))).trans hk_13
  have hc_18 : (mm_U M_10 b (.inr (49, [.ref ar1, .int 0, .int 0, .int (nI (cs.length + ds.length))]))) sar = some (.inl (Z.2.1 1, ds.length, .inl (tb_f ds))) := (mm_U_ne (mm_neA hk_14 hk_12)).trans hk_14
  have hc_19 : (mm_U M_10 b (.inr (49, [.ref ar1, .int 0, .int 0, .int (nI (cs.length + ds.length))]))) ar1 = some (.inl (Z.2.1 1, (tb_cap (cs.length + ds.length) cap), .inl (tb_f (cs ++ ds)))) := (mm_U_ne (mm_neA hk_15 hk_12)).trans hk_15
  obtain ⟨M_20, eM_20⟩ : ∃ z, z = mm_U M_10 b (.inr (49, [.ref ar1, .int 0, .int 0, .int (nI (cs.length + ds.length))])) := ⟨_, rfl⟩
  rw [← eM_20] at hM hc_17 hc_18 hc_16 hc_19
  refine lv_aload_n hx hb dJ18_append_43 rfl (lv_at hl 1 rfl) ?_
  have hT6 : TB Z M_20 b ar1 (tb_cap (cs.length + ds.length) cap) (cs ++ ds) := ⟨by rw [List.length_append]; exact hc_16, hc_19, by rw [List.length_append]; exact hbd.1, hbd.2.2, tb_ok_app hok hso9⟩
  exact mm_reta hx hb hr (Or.inl ⟨_, rfl⟩) (Or.inr ⟨_, rfl⟩) hlk hM hS ⟨rfl, tb_post.trans ho1 hk1 hT6 (fun q h1 h2 => by rw [eM_20, mm_U_ne h1, eM_10, mm_U_ne h2])⟩ dJ18_append_44 (by dsimp only; omega) (by dsimp only; omega)
set_option maxHeartbeats 4000000 in
set_option maxRecDepth 100000 in
theorem c_J19_append (l : Launch) (Z : mm_G) {M : mm_M} {b ar cap : Nat} {cs : List Nat} (hT9 : TB Z M b ar cap cs) (hc : cap < 2 ^ 18) {sa sar : Nat} {ds : List Nat} (hS9 : ST Z M sa sar ds) (hne : sar ≠ ar) : mm_C l Z yJ19_append (ws_ yJ19_append cJ19_append 2 (some (.object "java/lang/StringBuilder"))) { frames := 5, cells := tb_mk (cs.length + ds.length) cap, slots := tb_ms (cs.length + ds.length) cap, locals := 260 } [.ref b, .ref sa] M (fun v M' => v = some (.ref b) ∧ tb_post Z M M' b ar cap (cs.length + ds.length) (cs ++ ds)) mm_nx := by
  refine mm_ofW (cc := cJ19_append) (maxL := 2) (ret := (some (.object "java/lang/StringBuilder"))) (by decide) rfl (Nat.le_of_ble_eq_true rfl) ?_
  intro p e s m below meth c A ls hx hb hr hlk hml hown hmn hts htab hE hST hA hM hS hl
  replace hl : lv_has ls 2 [(0, .ref b), (1, .ref sa)] := hl
  have hS8 := hS9
  have hT8 := hT9
  obtain ⟨hb9, ha, hlen, hc2, hok⟩ := hT9
  obtain ⟨hh9, hz9, hs9, hsa9, hsl9, hso9⟩ := hS9
  refine lv_aload_n hx hb dJ19_append_0 rfl (lv_at hl 0 rfl) ?_
  refine lv_aload_n hx hb dJ19_append_1 rfl (lv_at hl 1 rfl) ?_
  have hC9 := c_J18_append l Z hT8 hc hS8 hne
  refine mm_callSU (As := [.ref sa]) (rest := []) ⟨hx, hb, hml, hown, hts⟩ hE hST hA hC9 (va_cwSU 1 hts (lw_app (lw_in _ [1336, 2852, 1330, 1337, 92] (by decide +kernel) (by decide +kernel)) (lw_meth q1338)) rfl rfl rfl (by decide +kernel) ⟨(Nat.le_of_ble_eq_true rfl), (Nat.le_of_ble_eq_true rfl)⟩) hM hS mm_cJ19 hb9 rfl hl.1 (Nat.le_of_ble_eq_true rfl) dJ19_append_2 rfl ⟨(by dsimp only; omega), (by dsimp only; omega)⟩ (fun _ _ _ _ _ _ h9 => h9.elim) (fun v_1 M_2 H locs hp_3 hM hS => ?_)
  obtain ⟨rfl, hp9⟩ := hp_3
  refine lv_pop hx hb dJ19_append_5 rfl ?_
  refine lv_aload_n hx hb dJ19_append_6 rfl (lv_at hl 0 rfl) ?_
  exact mm_reta hx hb hr (Or.inl ⟨_, rfl⟩) (Or.inr ⟨_, rfl⟩) hlk hM hS ⟨rfl, hp9⟩ dJ19_append_7 (by dsimp only; omega) (by dsimp only; omega)
set_option maxHeartbeats 4000000 in
set_option maxRecDepth 100000 in
theorem c_J16_canEncode (l : Launch) (Z : mm_G) {M : mm_M} {k : Nat} (hk : k < 128) : mm_C l Z yJ16_canEncode (ws_ yJ16_canEncode cJ16_canEncode 1 (some .boolean)) { frames := 0, cells := 0, slots := 0, locals := 0 } [.int (nI k)] M (fun v M' => v = some (.int 1) ∧ M' = M) mm_nx := by
  refine mm_ofW (cc := cJ16_canEncode) (maxL := 1) (ret := (some .boolean)) (by decide) rfl (Nat.le_of_ble_eq_true rfl) ?_
  intro p e s m below meth c A ls hx hb hr hlk hml hown hmn hts htab hE hST hA hM hS hl
  replace hl : lv_has ls 1 [(0, .int (nI k))] := hl
  refine lv_iload_n hx hb dJ16_canEncode_0 rfl (lv_at hl 0 rfl) ?_
  refine lv_sipush (v := 255) hx hb dJ16_canEncode_1 (by decide) ?_
  refine lv_icmp_gt (tgt := 11) hx hb dJ16_canEncode_4 (by decide) (fun h9 => absurd h9 (nI_nlt (a := 255) (b := k) (by omega) (by omega))) (fun _ => ?_)
  refine lv_iconst (v := 1) hx hb dJ16_canEncode_7 (by decide) ?_
  refine lv_goto (tgt := 12) hx hb dJ16_canEncode_8 (by decide) ?_
  exact mm_retz hx hb hr rfl hlk hM hS ⟨rfl, rfl⟩ dJ16_canEncode_12 (Nat.le_of_ble_eq_true rfl) (Nat.le_of_ble_eq_true rfl)
