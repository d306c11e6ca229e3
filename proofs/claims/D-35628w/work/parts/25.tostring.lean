/-! ===== StringBuilder.toString() ===== -/
set_option maxRecDepth 100000
theorem pk_sub0 (x : Int32) : x - 0 = x := by simp
theorem pk_nlt0 {n : Nat} (h : n < 2 ^ 31) : ¬ nI n < 0 := nI_pos h

set_option maxHeartbeats 4000000 in
set_option maxRecDepth 100000 in
theorem c_J10_checkLength (l : Launch) (Z : mm_G) {M : mm_M} {n : Nat} (hn : n < 2 ^ 31) : mm_C l Z yJ10_checkLength (ws_ yJ10_checkLength cJ10_checkLength 2 none) { frames := 0, cells := 0, slots := 0, locals := 0 } [.int 0, .int (nI n)] M (fun v M' => v = none ∧ M' = M) mm_nx := by
  refine mm_ofW (cc := cJ10_checkLength) (maxL := 2) (ret := none) (by decide) rfl (Nat.le_of_ble_eq_true rfl) ?_
  intro p e s m below meth c A ls hx hb hr hlk hml hown hmn hts htab hE hST hA hM hS hl
  replace hl : lv_has ls 2 [(0, .int 0), (1, .int (nI n))] := hl
  refine lv_iload_n hx hb dJ10_checkLength_0 rfl (lv_at hl 1 rfl) ?_
  refine lv_iload_n hx hb dJ10_checkLength_1 rfl (lv_at hl 0 rfl) ?_
  refine lv_icmp_ge (tgt := 37) hx hb dJ10_checkLength_2 (by decide) (fun _ => ?_) (fun h9 => absurd (nI_pos' (by omega)) h9)
  exact mm_retv hx hb hr hlk hM hS ⟨rfl, rfl⟩ dJ10_checkLength_37 (Nat.le_of_ble_eq_true rfl) (Nat.le_of_ble_eq_true rfl)
set_option maxHeartbeats 4000000 in
set_option maxRecDepth 100000 in
theorem c_J10_copyOfRangeByte (l : Launch) (Z : mm_G) {M : mm_M} {ar cap : Nat} {cs : List Nat} (ha : M ar = some (tb_A Z cap (tb_f cs))) (hlen : cs.length ≤ cap) (hc : cap < 2 ^ 20) (hok : tb_ok cs) : mm_C l Z yJ10_copyOfRangeByte (ws_ yJ10_copyOfRangeByte cJ10_copyOfRangeByte 5 (some (.array .byte))) { frames := 1, cells := 1, slots := cs.length, locals := 60 } [.ref ar, .int 0, .int (nI cs.length)] M (fun v M' => ∃ q : Nat, M q = none ∧ v = some (.ref q) ∧ M' = mm_U M q (tb_A Z cs.length (tb_f cs))) mm_nx := by
  refine mm_ofW (cc := cJ10_copyOfRangeByte) (maxL := 5) (ret := (some (.array .byte))) (by decide) rfl (Nat.le_of_ble_eq_true rfl) ?_
  intro p e s m below meth c A ls hx hb hr hlk hml hown hmn hts htab hE hST hA hM hS hl
  replace hl : lv_has ls 5 [(0, .ref ar), (1, .int 0), (2, .int (nI cs.length))] := hl
  refine lv_iload_n hx hb dJ10_copyOfRangeByte_0 rfl (lv_at hl 1 rfl) ?_
  refine lv_iload_n hx hb dJ10_copyOfRangeByte_1 rfl (lv_at hl 2 rfl) ?_
  refine mm_callS (As := [.int 0, .int (nI cs.length)]) (rest := []) ⟨hx, hb, hml, hown, hts⟩ hE hST hA (c_J10_checkLength l Z (by omega)) (va_cwS 2 hts (lw_S q1494 q1495 q63 q1496) rfl rfl rfl (by decide +kernel) ⟨(Nat.le_of_ble_eq_true rfl), (Nat.le_of_ble_eq_true rfl)⟩) hM hS rfl hl.1 (Nat.le_of_ble_eq_true rfl) dJ10_copyOfRangeByte_2 rfl ⟨(by dsimp only; omega), (by dsimp only; omega)⟩ (fun _ _ _ _ _ _ h9 => h9.elim) (fun v_1 M_2 H locs hp_3 hM hS => ?_)
  obtain ⟨rfl, eM_2⟩ := hp_3
  rw [eM_2] at hM
  refine lv_iload_n hx hb dJ10_copyOfRangeByte_5 rfl (lv_at hl 2 rfl) ?_
  refine lv_iload_n hx hb dJ10_copyOfRangeByte_6 rfl (lv_at hl 1 rfl) ?_
  refine lv_isub hx hb dJ10_copyOfRangeByte_7 ?_
  rw [show ((nI cs.length) - 0 : Int32) = nI cs.length from pk_sub0 _]
  refine lv_istore_n hx hb dJ10_copyOfRangeByte_8 rfl hl (by decide) rfl (fun ls hl => ?_)
  replace hl : lv_has ls 5 [(3, .int (nI cs.length)), (0, .ref ar), (1, .int 0), (2, .int (nI cs.length))] := hl
  refine lv_iload_n hx hb dJ10_copyOfRangeByte_9 rfl (lv_at hl 0 rfl) ?_
  refine mm_newa (atype := .byte) (ty := .byte) (a0 := (cs.length, .inl (fun _ => 0))) hx hb (hts _ q172) rfl (fun C9 h9 => by cases h9) hE.1 hM hS hA 1 rfl (fun _ => rfl) (nI_pos (by omega)) (nI_clamp (by omega)) (by show cs.length * 1 ≤ _; omega) (by dsimp only; omega) (by dsimp only; omega) dJ10_copyOfRangeByte_10 (fun q_4 H nq_5 hM hS => ?_)
  have hM : mm_P Z.1 mm_cl A (mm_U M q_4 (.inl (Z.2.1 1, cs.length, .inl (fun _ => 0)))) H := hM
  have ne_6 : ar ≠ q_4 := (mm_neN ha nq_5)
  have hc_7 : (mm_U M q_4 (.inl (Z.2.1 1, cs.length, .inl (fun _ => 0)))) q_4 = some (.inl (Z.2.1 1, cs.length, .inl (fun _ => 0))) := mm_U_eq
  have hc_8 : (mm_U M q_4 (.inl (Z.2.1 1, cs.length, .inl (fun _ => 0)))) ar = some (.inl (Z.2.1 1, cap, .inl (tb_f cs))) := (mm_U_ne ne_6).trans ha
  obtain ⟨M_9, eM_9⟩ : ∃ z, z = mm_U M q_4 (.inl (Z.2.1 1, cs.length, .inl (fun _ => 0))) := ⟨_, rfl⟩
  rw [← eM_9] at hM hc_8 hc_7
  refine lv_astore hx hb dJ10_copyOfRangeByte_12 hl (by decide) rfl (fun ls hl => ?_)
  replace hl : lv_has ls 5 [(4, .ref q_4), (3, .int (nI cs.length)), (0, .ref ar), (1, .int 0), (2, .int (nI cs.length))] := hl
  refine lv_aload_n hx hb dJ10_copyOfRangeByte_14 rfl (lv_at hl 2 rfl) ?_
  refine lv_iload_n hx hb dJ10_copyOfRangeByte_15 rfl (lv_at hl 3 rfl) ?_
  refine lv_aload hx hb dJ10_copyOfRangeByte_16 (lv_at hl 0 rfl) ?_
  refine lv_iconst (v := 0) hx hb dJ10_copyOfRangeByte_18 (by decide) ?_
  refine lv_aload_n hx hb dJ10_copyOfRangeByte_19 rfl (lv_at hl 2 rfl) ?_
  refine mm_alen hx hb hE hM 1 hc_8 rfl dJ10_copyOfRangeByte_20 ?_
  refine lv_iload_n hx hb dJ10_copyOfRangeByte_21 rfl (lv_at hl 3 rfl) ?_
  refine lv_isub hx hb dJ10_copyOfRangeByte_22 ?_
  rw [show ((nI cap) - 0 : Int32) = nI cap from pk_sub0 _]
  refine lv_iload_n hx hb dJ10_copyOfRangeByte_23 rfl (lv_at hl 1 rfl) ?_
  refine va_mmin hx hb (hml.trans hl.1.symm) hown (hts _ q426) (hts _ q427) (hts _ q62) (hts _ q428) (Nat.le_of_ble_eq_true rfl) (Nat.le_of_ble_eq_true rfl) (by dsimp only; omega) (by dsimp only; omega) dJ10_copyOfRangeByte_24 ?_
  rw [show ((if (nI cs.length) < (nI cap) then (nI cs.length) else (nI cap)) : Int32) = nI cs.length from (mm_min (by omega) (by omega)).trans (by congr 1; omega)]
  refine mm_copyB (kS := 0) (kD := 0) (kN := cs.length) hx hb (hml.trans hl.1.symm) hown (hts _ q429) (hts _ q431) (hts _ q430) (hts _ q64) hE hM hS hc_8 hc_7 rfl rfl rfl (by omega) (by omega) (by omega) (by omega) (fun i _ => tb_fit hok _) (Nat.le_of_ble_eq_true rfl) (Nat.le_of_ble_eq_true rfl) dJ10_copyOfRangeByte_27 (fun H locs hM hS => ?_)
  rw [show va_cpy (tb_f cs) (fun _ => 0) 0 0 cs.length = tb_f cs from tb_cpy (Nat.le_refl _)] at hM
  have hM : mm_P Z.1 mm_cl A (mm_U M_9 q_4 (.inl (Z.2.1 1, cs.length, .inl (tb_f cs)))) H := hM
  have hc_10 : (mm_U M_9 q_4 (.inl (Z.2.1 1, cs.length, .inl (tb_f cs)))) q_4 = some (.inl (Z.2.1 1, cs.length, .inl (tb_f cs))) := mm_U_eq
  have hc_11 : (mm_U M_9 q_4 (.inl (Z.2.1 1, cs.length, .inl (tb_f cs)))) ar = some (.inl (Z.2.1 1, cap, .inl (tb_f cs))) := (mm_U_ne ne_6).trans hc_8
  obtain ⟨M_12, eM_12⟩ : ∃ z, z = mm_U M_9 q_4 (.inl (Z.2.1 1, cs.length, .inl (tb_f cs))) := ⟨_, rfl⟩
  rw [← eM_12] at hM hc_11 hc_10
  refine lv_aload hx hb dJ10_copyOfRangeByte_30 (lv_at hl 0 rfl) ?_
  exact mm_reta hx hb hr (Or.inr ⟨_, rfl⟩) (Or.inr ⟨_, rfl⟩) hlk hM hS ⟨q_4, nq_5, rfl, by subst eM_12 eM_9; simp only [mm_U_U]⟩ dJ10_copyOfRangeByte_32 (by dsimp only; omega) (by dsimp only; omega)
set_option maxHeartbeats 4000000 in
set_option maxRecDepth 100000 in
theorem c_J10_copyOfRange (l : Launch) (Z : mm_G) {M : mm_M} {ar cap : Nat} {cs : List Nat} (ha : M ar = some (tb_A Z cap (tb_f cs))) (hlen : cs.length ≤ cap) (hc : cap < 2 ^ 20) (hok : tb_ok cs) : mm_C l Z yJ10_copyOfRange (ws_ yJ10_copyOfRange cJ10_copyOfRange 3 (some (.array .byte))) { frames := 2, cells := 1, slots := cs.length, locals := 100 } [.ref ar, .int 0, .int (nI cs.length)] M (fun v M' => ∃ q : Nat, M q = none ∧ v = some (.ref q) ∧ M' = mm_U M q (tb_A Z cs.length (tb_f cs))) mm_nx := by
  refine mm_ofW (cc := cJ10_copyOfRange) (maxL := 3) (ret := (some (.array .byte))) (by decide) rfl (Nat.le_of_ble_eq_true rfl) ?_
  intro p e s m below meth c A ls hx hb hr hlk hml hown hmn hts htab hE hST hA hM hS hl
  replace hl : lv_has ls 3 [(0, .ref ar), (1, .int 0), (2, .int (nI cs.length))] := hl
  refine lv_iload_n hx hb dJ10_copyOfRange_0 rfl (lv_at hl 1 rfl) ?_
  refine lv_if_ne (tgt := 10) hx hb dJ10_copyOfRange_1 (by decide) (fun h9 => absurd rfl h9) (fun _ => ?_)
  refine lv_iload_n hx hb dJ10_copyOfRange_4 rfl (lv_at hl 2 rfl) ?_
  refine lv_aload_n hx hb dJ10_copyOfRange_5 rfl (lv_at hl 0 rfl) ?_
  refine mm_alen hx hb hE hM 1 ha rfl dJ10_copyOfRange_6 ?_
  refine lv_icmp_eq (tgt := 17) hx hb dJ10_copyOfRange_7 (by decide) (fun c_1 => ?_) (fun c_1 => ?_)
  · have e9 : cs.length = cap := (nI_eq (by omega) (by omega)).1 c_1
    refine lv_aload_n hx hb dJ10_copyOfRange_17 rfl (lv_at hl 0 rfl) ?_
    refine mm_cloneB hx hb (hml.trans hl.1.symm) hown hts (hts _ q1356) hE hM hS hA ha (fun i _ => tb_fit hok _) (Nat.le_of_ble_eq_true rfl) (Nat.le_of_ble_eq_true rfl) (by dsimp only; omega) (by dsimp only; omega) dJ10_copyOfRange_18 (fun q_2 H nq_3 hM hS => ?_)
    have hM : mm_P Z.1 mm_cl A (mm_U M q_2 (.inl (Z.2.1 1, cap, .inl (tb_f cs)))) H := hM
    have ne_4 : ar ≠ q_2 := (mm_neN ha nq_3)
    have hc_5 : (mm_U M q_2 (.inl (Z.2.1 1, cap, .inl (tb_f cs)))) q_2 = some (.inl (Z.2.1 1, cap, .inl (tb_f cs))) := mm_U_eq
    have hc_6 : (mm_U M q_2 (.inl (Z.2.1 1, cap, .inl (tb_f cs)))) ar = some (.inl (Z.2.1 1, cap, .inl (tb_f cs))) := (mm_U_ne ne_4).trans ha
    obtain ⟨M_7, eM_7⟩ : ∃ z, z = mm_U M q_2 (.inl (Z.2.1 1, cap, .inl (tb_f cs))) := ⟨_, rfl⟩
    rw [← eM_7] at hM hc_6 hc_5
    refine mm_castB hx hb hown (hts _ q1362) hE hM hc_5 dJ10_copyOfRange_21 ?_
    exact mm_reta hx hb hr (Or.inr ⟨_, rfl⟩) (Or.inr ⟨_, rfl⟩) hlk hM hS ⟨q_2, nq_3, rfl, by rw [e9]; exact eM_7⟩ dJ10_copyOfRange_24 (by dsimp only; omega) (by dsimp only; omega)
  · skip
    refine lv_aload_n hx hb dJ10_copyOfRange_10 rfl (lv_at hl 0 rfl) ?_
    refine lv_iload_n hx hb dJ10_copyOfRange_11 rfl (lv_at hl 1 rfl) ?_
    refine lv_iload_n hx hb dJ10_copyOfRange_12 rfl (lv_at hl 2 rfl) ?_
    refine mm_callS (As := [.ref ar, .int 0, .int (nI cs.length)]) (rest := []) ⟨hx, hb, hml, hown, hts⟩ hE hST hA (c_J10_copyOfRangeByte l Z ha hlen hc hok) (va_cwS 3 hts (lw_S q1491 q1492 q63 q1493) rfl rfl rfl (by decide +kernel) ⟨(Nat.le_of_ble_eq_true rfl), (Nat.le_of_ble_eq_true rfl)⟩) hM hS rfl hl.1 (Nat.le_of_ble_eq_true rfl) dJ10_copyOfRange_13 rfl ⟨(by dsimp only; omega), (by dsimp only; omega)⟩ (fun _ _ _ _ _ _ h9 => h9.elim) (fun v_2 M_3 H locs hp_4 hM hS => ?_)
    obtain ⟨q9, hq9, rfl, eM9⟩ := hp_4
    exact mm_reta hx hb hr (Or.inr ⟨_, rfl⟩) (Or.inr ⟨_, rfl⟩) hlk hM hS ⟨q9, hq9, rfl, eM9⟩ dJ10_copyOfRange_16 (by dsimp only; omega) (by dsimp only; omega)
set_option maxHeartbeats 4000000 in
set_option maxRecDepth 100000 in
theorem c_J13_init_2 (l : Launch) (Z : mm_G) {M : mm_M} {sa b ar cap : Nat} {cs : List Nat} (hs9 : M sa = some (.inr (47, [.null, .int 0, .int 0, .int 0]))) (hT9 : TB Z M b ar cap cs) (hcs : cs.length < 2 ^ 18) : mm_C l Z yJ13_init_2 (ws_ yJ13_init_2 cJ13_init_2 5 none) { frames := 3, cells := 1, slots := cs.length, locals := 160 } [.ref sa, .ref b, .null] M (fun v M' => v = none ∧ ∃ q : Nat, M q = none ∧ ST Z M' sa q cs ∧ ∀ q9 : Nat, q9 ≠ sa → q9 ≠ q → M' q9 = M q9) mm_nx := by
  refine mm_ofW (cc := cJ13_init_2) (maxL := 5) (ret := none) (by decide) rfl (Nat.le_of_ble_eq_true rfl) ?_
  intro p e s m below meth c A ls hx hb hr hlk hml hown hmn hts htab hE hST hA hM hS hl
  replace hl : lv_has ls 5 [(0, .ref sa), (1, .ref b), (2, .null)] := hl
  have hT8 := hT9
  obtain ⟨hb9, ha, hlen, hc2, hok⟩ := hT9
  refine lv_aload_n hx hb dJ13_init_2_0 rfl (lv_at hl 0 rfl) ?_
  refine W.objInit hx hb hown (hts _ q1473) (hts _ q127) (hts _ q128) rfl (by rw [hml]; exact hl.1) rfl dJ13_init_2_1 (Nat.le_of_ble_eq_true rfl) (Nat.le_of_ble_eq_true rfl) ?_
  refine W.eq (g2 := F0 m 4 ls []) rfl ?_
  refine lv_aload_n hx hb dJ13_init_2_4 rfl (lv_at hl 1 rfl) ?_
  refine mm_callU (As := []) (rest := []) ⟨hx, hb, hml, hown, hts⟩ hE hST hA (c_J18_getValue l Z (M := M) (h0 := b) (f0 := (some ar)) (f1 := 0) (f2 := false) (f3 := (nI cs.length)) hb9) (va_cwU (x := ⟨"java/lang/AbstractStringBuilder", "getValue", "()[B"⟩) (C := RJ19) (owner := "java/lang/AbstractStringBuilder") 0 hts (lw_app (lw_in _ [1474, 1476, 1477, 1475, 92] (by decide +kernel) (by decide +kernel)) (lw_meth q1478)) rfl rfl rfl rfl (by decide +kernel) ⟨(Nat.le_of_ble_eq_true rfl), (Nat.le_of_ble_eq_true rfl)⟩) hM hS mm_cJ19 hb9 rfl hl.1 (Nat.le_of_ble_eq_true rfl) dJ13_init_2_5 rfl ⟨(Nat.le_of_ble_eq_true rfl), (Nat.le_of_ble_eq_true rfl)⟩ (fun _ _ _ _ _ _ h9 => h9.elim) (fun v_1 M_2 H locs hp_3 hM hS => ?_)
  obtain ⟨rfl, eM_2⟩ := hp_3
  rw [eM_2] at hM
  refine lv_astore_n hx hb dJ13_init_2_8 rfl hl (by decide) rfl (fun ls hl => ?_)
  replace hl : lv_has ls 5 [(3, .ref ar), (0, .ref sa), (1, .ref b), (2, .null)] := hl
  refine lv_aload_n hx hb dJ13_init_2_9 rfl (lv_at hl 2 rfl) ?_
  refine mm_callU (As := []) (rest := []) ⟨hx, hb, hml, hown, hts⟩ hE hST hA (c_J19_length l Z (M := M) (h0 := b) (f0 := (some ar)) (f1 := 0) (f2 := false) (f3 := (nI cs.length)) hb9) (va_cwO (x := ⟨"java/lang/AbstractStringBuilder", "length", "()I"⟩) (C := RJ19) (owner := "java/lang/AbstractStringBuilder") 0 hts (lw_app (lw_in _ [1479, 1481, 1480, 1482, 1483, 93] (by decide +kernel) (by decide +kernel)) (lw_meth q1484)) rfl rfl rfl q1486 (by decide +kernel) ⟨(Nat.le_of_ble_eq_true rfl), (Nat.le_of_ble_eq_true rfl)⟩) hM hS mm_cJ19 hb9 rfl hl.1 (Nat.le_of_ble_eq_true rfl) dJ13_init_2_10 rfl ⟨(Nat.le_of_ble_eq_true rfl), (Nat.le_of_ble_eq_true rfl)⟩ (fun _ _ _ _ _ _ h9 => h9.elim) (fun v_4 M_5 H locs hp_6 hM hS => ?_)
  obtain ⟨rfl, eM_5⟩ := hp_6
  rw [eM_5] at hM
  refine lv_istore hx hb dJ13_init_2_13 hl (by decide) rfl (fun ls hl => ?_)
  replace hl : lv_has ls 5 [(4, .int (nI cs.length)), (3, .ref ar), (0, .ref sa), (1, .ref b), (2, .null)] := hl
  refine lv_aload_n hx hb dJ13_init_2_15 rfl (lv_at hl 3 rfl) ?_
  refine mm_callU (As := []) (rest := []) ⟨hx, hb, hml, hown, hts⟩ hE hST hA (c_J18_isLatin1 l Z hT8) (va_cwU (x := ⟨"java/lang/AbstractStringBuilder", "isLatin1", "()Z"⟩) (C := RJ19) (owner := "java/lang/AbstractStringBuilder") 0 hts (lw_app (lw_in _ [1487, 1365, 1366, 1364, 92] (by decide +kernel) (by decide +kernel)) (lw_meth q1367)) rfl rfl rfl rfl (by decide +kernel) ⟨(Nat.le_of_ble_eq_true rfl), (Nat.le_of_ble_eq_true rfl)⟩) hM hS mm_cJ19 hb9 rfl hl.1 (Nat.le_of_ble_eq_true rfl) dJ13_init_2_16 rfl ⟨(by dsimp only; omega), (by dsimp only; omega)⟩ (fun _ _ _ _ _ _ h9 => h9.elim) (fun v_7 M_8 H locs hp_9 hM hS => ?_)
  obtain ⟨rfl, eM_8⟩ := hp_9
  rw [eM_8] at hM
  refine lv_if_eq (tgt := 41) hx hb dJ13_init_2_19 (by decide) (fun h9 => absurd h9 (by decide : (1 : Int32) ≠ 0)) (fun _ => ?_)
  refine lv_aload_n hx hb dJ13_init_2_22 rfl (lv_at hl 2 rfl) ?_
  refine lv_iconst (v := 0) hx hb dJ13_init_2_23 (by decide) ?_
  refine mm_putF (D := Z.1) (ci := 47) (v := .int 0) (ty := .byte) (C := RJ13) (T := TJ13) (N := 4) hx hb hts in_J13 tyJ13 tyJ13_ok nmJ13 hown hE.1 hM hS hs9 mm_cJ13 1 (by decide) (hts _ q1522) (fun _ h9 => h9) rfl hmn rfl (by decide +kernel) rfl rfl (Nat.le_of_ble_eq_true rfl) dJ13_init_2_24 (fun H locs hM hS => ?_)
  have hM : mm_P Z.1 mm_cl A (mm_U M sa (.inr (47, [.null, .int 0, .int 0, .int 0]))) H := hM
  have hc_10 : (mm_U M sa (.inr (47, [.null, .int 0, .int 0, .int 0]))) sa = some (.inr (47, [.null, .int 0, .int 0, .int 0])) := mm_U_eq
  have hc_11 : (mm_U M sa (.inr (47, [.null, .int 0, .int 0, .int 0]))) b = some (.inr (49, [.ref ar, .int 0, .int 0, .int (nI cs.length)])) := (mm_U_ne (mm_neC hb9 hs9 (by decide))).trans hb9
  have hc_12 : (mm_U M sa (.inr (47, [.null, .int 0, .int 0, .int 0]))) ar = some (.inl (Z.2.1 1, cap, .inl (tb_f cs))) := (mm_U_ne (Ne.symm (Ne.symm (mm_neA ha hs9)))).trans ha
  obtain ⟨M_13, eM_13⟩ : ∃ z, z = mm_U M sa (.inr (47, [.null, .int 0, .int 0, .int 0])) := ⟨_, rfl⟩
  rw [← eM_13] at hM hc_11 hc_12 hc_10
  refine lv_aload_n hx hb dJ13_init_2_27 rfl (lv_at hl 2 rfl) ?_
  refine lv_aload_n hx hb dJ13_init_2_28 rfl (lv_at hl 1 rfl) ?_
  refine lv_iconst (v := 0) hx hb dJ13_init_2_29 (by decide) ?_
  refine lv_iload hx hb dJ13_init_2_30 (lv_at hl 0 rfl) ?_
  refine mm_callS (As := [.ref ar, .int 0, .int (nI cs.length)]) (rest := [.ref sa]) ⟨hx, hb, hml, hown, hts⟩ hE hST hA (c_J10_copyOfRange l Z hc_12 hlen hc2 hok) (va_cwS 3 hts (lw_S q1488 q1489 q63 q1490) rfl rfl rfl (by decide +kernel) ⟨(Nat.le_of_ble_eq_true rfl), (Nat.le_of_ble_eq_true rfl)⟩) hM hS rfl hl.1 (Nat.le_of_ble_eq_true rfl) dJ13_init_2_32 rfl ⟨(by dsimp only; omega), (by dsimp only; omega)⟩ (fun _ _ _ _ _ _ h9 => h9.elim) (fun v_14 M_15 H locs hp_16 hM hS => ?_)
  obtain ⟨q9, hq9, rfl, eM9⟩ := hp_16
  have hne9 : sa ≠ q9 := mm_neN hc_10 hq9
  have hk_17 : M_15 sa = some (.inr (47, [.null, .int 0, .int 0, .int 0])) := by rw [eM9, mm_U_ne hne9]; exact hc_10
  have hk_18 : M_15 q9 = some (.inl (Z.2.1 1, cs.length, .inl (tb_f cs))) := by rw [eM9]; exact mm_U_eq
  refine mm_putF (D := Z.1) (ci := 47) (v := .ref q9) (ty := .array (.byte)) (C := RJ13) (T := TJ13) (N := 4) hx hb hts in_J13 tyJ13 tyJ13_ok nmJ13 hown hE.1 hM hS hk_17 mm_cJ13 0 (by decide) (hts _ q1521) (fun _ h9 => h9) rfl hmn rfl (by decide +kernel) rfl rfl (Nat.le_of_ble_eq_true rfl) dJ13_init_2_35 (fun H locs hM hS => ?_)
  have hM : mm_P Z.1 mm_cl A (mm_U M_15 sa (.inr (47, [.ref q9, .int 0, .int 0, .int 0]))) H := hM
  have hc_19 : (mm_U M_15 sa (.inr (47, [.ref q9, .int 0, .int 0, .int 0]))) sa = some (.inr (47, [.ref q9, .int 0, .int 0, .int 0])) := mm_U_eq
  have hc_20 : (mm_U M_15 sa (.inr (47, [.ref q9, .int 0, .int 0, .int 0]))) q9 = some (.inl (Z.2.1 1, cs.length, .inl (tb_f cs))) := (mm_U_ne (Ne.symm hne9)).trans hk_18
  obtain ⟨M_21, eM_21⟩ : ∃ z, z = mm_U M_15 sa (.inr (47, [.ref q9, .int 0, .int 0, .int 0])) := ⟨_, rfl⟩
  rw [← eM_21] at hM hc_19 hc_20
  refine lv_goto (tgt := 97) hx hb dJ13_init_2_38 (by decide) ?_
  have hq8 : M q9 = none := (mm_U_none (eM_13 ▸ hq9)).2
  exact mm_retv hx hb hr hlk hM hS ⟨rfl, q9, hq8, ⟨0, 0, hc_19, hc_20, hcs, hok⟩, fun q h1 h2 => by rw [eM_21, mm_U_ne h1, eM9, mm_U_ne h2, eM_13, mm_U_ne h1]⟩ dJ13_init_2_97 (by dsimp only; omega) (by dsimp only; omega)
set_option maxHeartbeats 4000000 in
set_option maxRecDepth 100000 in
theorem c_J13_init (l : Launch) (Z : mm_G) {M : mm_M} {sa b ar cap : Nat} {cs : List Nat} (hs9 : M sa = some (.inr (47, [.null, .int 0, .int 0, .int 0]))) (hT9 : TB Z M b ar cap cs) (hcs : cs.length < 2 ^ 18) : mm_C l Z yJ13_init (ws_ yJ13_init cJ13_init 2 none) { frames := 4, cells := 1, slots := cs.length, locals := 200 } [.ref sa, .ref b] M (fun v M' => v = none ∧ ∃ q : Nat, M q = none ∧ ST Z M' sa q cs ∧ ∀ q9 : Nat, q9 ≠ sa → q9 ≠ q → M' q9 = M q9) mm_nx := by
  refine mm_ofW (cc := cJ13_init) (maxL := 2) (ret := none) (by decide) rfl (Nat.le_of_ble_eq_true rfl) ?_
  intro p e s m below meth c A ls hx hb hr hlk hml hown hmn hts htab hE hST hA hM hS hl
  replace hl : lv_has ls 2 [(0, .ref sa), (1, .ref b)] := hl
  have hT8 := hT9
  obtain ⟨hb9, ha, hlen, hc2, hok⟩ := hT9
  refine lv_aload_n hx hb dJ13_init_0 rfl (lv_at hl 0 rfl) ?_
  refine lv_aload_n hx hb dJ13_init_1 rfl (lv_at hl 1 rfl) ?_
  refine lv_null hx hb dJ13_init_2 ?_
  refine mm_callI (As := [.ref b, .null]) (rest := []) ⟨hx, hb, hml, hown, hts⟩ hE hST hA (c_J13_init_2 l Z hs9 hT8 hcs) (cwI (maxL := 5) 2 hts (lw_meth q1472) rfl rfl rfl (hts _ q67) (hts _ q1470) (hts _ q1471) rfl (by decide +kernel) ⟨(Nat.le_of_ble_eq_true rfl), (Nat.le_of_ble_eq_true rfl)⟩) hM hS rfl hl.1 (Nat.le_of_ble_eq_true rfl) dJ13_init_3 rfl ⟨(by dsimp only; omega), (by dsimp only; omega)⟩ (fun _ _ _ _ _ _ h9 => h9.elim) (fun v_1 M_2 H locs hp_3 hM hS => ?_)
  obtain ⟨rfl, hp9⟩ := hp_3
  exact mm_retv hx hb hr hlk hM hS ⟨rfl, hp9⟩ dJ13_init_6 (by dsimp only; omega) (by dsimp only; omega)
set_option maxHeartbeats 4000000 in
set_option maxRecDepth 100000 in
theorem c_J19_toString (l : Launch) (Z : mm_G) {M : mm_M} {b ar cap : Nat} {cs : List Nat} (hT9 : TB Z M b ar cap cs) (hcs : cs.length < 2 ^ 18) : mm_C l Z yJ19_toString (ws_ yJ19_toString cJ19_toString 1 (some (.object "java/lang/String"))) { frames := 5, cells := 2, slots := cs.length + 4, locals := 240 } [.ref b] M (fun v M' => ∃ sa q : Nat, M sa = none ∧ M q = none ∧ v = some (.ref sa) ∧ ST Z M' sa q cs ∧ ∀ q9 : Nat, q9 ≠ sa → q9 ≠ q → M' q9 = M q9) mm_nx := by
  refine mm_ofW (cc := cJ19_toString) (maxL := 1) (ret := (some (.object "java/lang/String"))) (by decide) rfl (Nat.le_of_ble_eq_true rfl) ?_
  intro p e s m below meth c A ls hx hb hr hlk hml hown hmn hts htab hE hST hA hM hS hl
  replace hl : lv_has ls 1 [(0, .ref b)] := hl
  have hT8 := hT9
  obtain ⟨hb9, ha, hlen, hc2, hok⟩ := hT9
  refine mm_new (D := Z.1) (ci := 47) (fs := mm_f0J13) (C := RJ13) (T := TJ13) (N := 4) hx hb hts in_J13 tyJ13 tyJ13_ok hown (hts _ q1466) (hts _ q464) (hts _ q67) hE.1 hM hS hA mm_cJ13 mm_dfJ13 (by dsimp only; omega) (by dsimp only; omega) dJ19_toString_0 (fun q_2 H nq_1 hM hS => ?_)
  have hM : mm_P Z.1 mm_cl A (mm_U M q_2 (.inr (47, [.null, .int 0, .int 0, .int 0]))) H := hM
  have ne_3 : b ≠ q_2 := (mm_neN hb9 nq_1)
  have ne_4 : ar ≠ q_2 := (mm_neN ha nq_1)
  have hc_5 : (mm_U M q_2 (.inr (47, [.null, .int 0, .int 0, .int 0]))) q_2 = some (.inr (47, [.null, .int 0, .int 0, .int 0])) := mm_U_eq
  have hc_6 : (mm_U M q_2 (.inr (47, [.null, .int 0, .int 0, .int 0]))) b = some (.inr (49, [.ref ar, .int 0, .int 0, .int (nI cs.length)])) := (mm_U_ne ne_3).trans hb9
  have hc_7 : (mm_U M q_2 (.inr (47, [.null, .int 0, .int 0, .int 0]))) ar = some (.inl (Z.2.1 1, cap, .inl (tb_f cs))) := (mm_U_ne ne_4).trans ha
  obtain ⟨M_8, eM_8⟩ : ∃ z, z = mm_U M q_2 (.inr (47, [.null, .int 0, .int 0, .int 0])) := ⟨_, rfl⟩
  rw [← eM_8] at hM hc_6 hc_7 hc_5
  refine lv_dup hx hb dJ19_toString_3 rfl ?_
  refine lv_aload_n hx hb dJ19_toString_4 rfl (lv_at hl 0 rfl) ?_
  have hT7 : TB Z M_8 b ar cap cs := ⟨hc_6, hc_7, hlen, hc2, hok⟩
  refine mm_callI (As := [.ref b]) (rest := [.ref q_2]) ⟨hx, hb, hml, hown, hts⟩ hE hST hA (c_J13_init l Z hc_5 hT7 hcs) (cwI (maxL := 2) 1 hts (lw_meth q1469) rfl rfl rfl (hts _ q67) (hts _ q1467) (hts _ q1468) rfl (by decide +kernel) ⟨(Nat.le_of_ble_eq_true rfl), (Nat.le_of_ble_eq_true rfl)⟩) hM hS rfl hl.1 (Nat.le_of_ble_eq_true rfl) dJ19_toString_5 rfl ⟨(by dsimp only; omega), (by dsimp only; omega)⟩ (fun _ _ _ _ _ _ h9 => h9.elim) (fun v_9 M_10 H locs hp_11 hM hS => ?_)
  obtain ⟨rfl, q9, hq9, hS9, hk9⟩ := hp_11
  have hq8 := (mm_U_none (eM_8 ▸ hq9)).2
  exact mm_reta hx hb hr (Or.inl ⟨_, rfl⟩) (Or.inr ⟨_, rfl⟩) hlk hM hS ⟨q_2, q9, nq_1, hq8, rfl, hS9, fun q h1 h2 => by rw [hk9 q h1 h2, eM_8, mm_U_ne h1]⟩ dJ19_toString_8 (by dsimp only; omega) (by dsimp only; omega)
