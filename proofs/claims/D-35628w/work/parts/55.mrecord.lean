/-! ===== the model's record ===== -/
set_option maxRecDepth 100000
set_option maxHeartbeats 4000000 in
set_option maxRecDepth 100000 in
theorem c_X2_record (l : Launch) (Z : mm_G) {M : mm_M} {fo its : Option Nat} {lb : Int32} {f : Nat → Option Nat} (hfo : ∀ a, fo = some a → ∃ q, M a = some (mw_E 3 0 (some q) none none) ∧ M q = some (mv_A Z f)) (hfn : fo = none → ∀ i, f i = none) (hfW : ∀ i y : Nat, i < 10 → f i = some y → mm_isW M y) (hiW : ∀ y, its = some y → mm_isW M y) : mm_C l Z yX2_record (ws_ yX2_record cX2_record 5 (some (.object "RowenTongueModel$Value"))) { frames := 3, cells := 2, slots := 15, locals := 100 } [va_rf fo, .int lb, va_rf its] M (fun v M' => ∃ (b q : Nat) (g : Nat → Option Nat), v = some (.ref b) ∧ M' b = some (mw_E 3 0 (some q) none none) ∧ M' q = some (mv_A Z g) ∧ (∀ k, k < 10 → g k = if nI k = lb then its else f k) ∧ mm_Ext M M') mm_nx := by
  refine mm_ofW (cc := cX2_record) (maxL := 5) (ret := (some (.object "RowenTongueModel$Value"))) (by decide) rfl (by simp [lg_sl, mm_cat_o, mm_cat_r, mm_cat_i, mm_cat_l, mm_cat_n]) ?_
  intro p e s m below meth c A ls hx hb hr hlk hml hown hmn hts htab hE hST hA hM hS hl
  replace hl : lv_has ls 5 [(0, va_rf fo), (1, .int lb), (2, va_rf its)] := by simpa [lv_args, mm_cat_o, mm_cat_r, mm_cat_i, mm_cat_l, mm_cat_n] using hl
  refine lv_iconst (v := 3) hx hb dX2_record_0 (by decide) ?_
  refine lv_iconst (v := 0) hx hb dX2_record_1 (by decide) ?_
  refine mm_callS (As := [.int 3, .int 0]) (rest := []) ⟨hx, hb, hml, hown, hts⟩ hE hST hA (c_X2_value l Z (M := M) (x1 := 3) (x2 := 0) ) (va_cwS 2 hts (lw_S q2773 q2774 q54 q2775) rfl rfl rfl (by decide +kernel) ⟨(Nat.le_of_ble_eq_true rfl), (Nat.le_of_ble_eq_true rfl)⟩) hM hS rfl hl.1 (Nat.le_of_ble_eq_true rfl) dX2_record_2 rfl ⟨(Nat.le_of_ble_eq_true rfl), (Nat.le_of_ble_eq_true rfl)⟩ (fun _ _ _ _ _ _ h9 => h9.elim) (fun v_1 M_2 H locs hp_3 hM hS => ?_)
  obtain ⟨q_4, nq_5, rfl, eM_2⟩ := hp_3
  rw [eM_2] at hM
  replace hM : mm_P Z.1 mm_cl A (mm_U M q_4 (.inr (32, [.int 3, .int 0, .null, .null, .null]))) H := hM
  have hc_6 : (mm_U M q_4 (.inr (32, [.int 3, .int 0, .null, .null, .null]))) q_4 = some (.inr (32, [.int 3, .int 0, .null, .null, .null])) := mm_U_eq
  obtain ⟨M_7, eM_7⟩ : ∃ z, z = mm_U M q_4 (.inr (32, [.int 3, .int 0, .null, .null, .null])) := ⟨_, rfl⟩
  rw [← eM_7] at hM hc_6
  refine lv_astore_n (lv' := [(3, .ref q_4), (0, va_rf fo), (1, .int lb), (2, va_rf its)]) hx hb dX2_record_5 rfl hl (by decide) (by simp [mm_cat_o, mm_cat_r, mm_cat_i, mm_cat_n, mm_cat_l] <;> decide) (fun ls hl => ?_)
  refine lv_aload_n hx hb dX2_record_6 rfl (lv_at hl 0 rfl) ?_
  refine lv_bipush (v := 10) hx hb dX2_record_7 (by decide) ?_
  refine mm_newq hx hb hown (hts _ q2776) (hE.2.2.2.2.1 _ (by decide)) hE.1 hM hS hA 9 rfl (by decide) (show Int32.toNatClampNeg 10 = 10 from by decide) (by decide) (Nat.le_of_ble_eq_true rfl) (Nat.le_of_ble_eq_true rfl) dX2_record_9 (fun q_8 H nq_9 hM hS => ?_)
  have hM : mm_P Z.1 mm_cl A (mm_U M_7 q_8 (.inl (Z.2.1 9, 10, .inr (.inr (.inr (.inr (fun _ => none))))))) H := hM
  have ne_10 : q_4 ≠ q_8 := (mm_neN hc_6 nq_9)
  have nn_11 := (mm_U_none (eM_7 ▸ nq_9)).2
  have hc_12 : (mm_U M_7 q_8 (.inl (Z.2.1 9, 10, .inr (.inr (.inr (.inr (fun _ => none))))))) q_8 = some (.inl (Z.2.1 9, 10, .inr (.inr (.inr (.inr (fun _ => none)))))) := mm_U_eq
  have hc_13 : (mm_U M_7 q_8 (.inl (Z.2.1 9, 10, .inr (.inr (.inr (.inr (fun _ => none))))))) q_4 = some (.inr (32, [.int 3, .int 0, .null, .null, .null])) := (mm_U_ne ne_10).trans hc_6
  obtain ⟨M_14, eM_14⟩ : ∃ z, z = mm_U M_7 q_8 (.inl (Z.2.1 9, 10, .inr (.inr (.inr (.inr (fun _ => none)))))) := ⟨_, rfl⟩
  rw [← eM_14] at hM hc_13 hc_12
  refine mm_put (D := Z.1) (ci := 32) (v := .ref q_8) (ty := .array (.object "RowenTongueModel$Value")) (C := RX38) (T := TX38) (N := 5) hx hb hts in_X38 tyX38 tyX38_ok nmX38 hown hE.1 hM hS hc_13 mm_cX38 2 (by decide) (hts _ q2784) (fun _ h9 => h9) rfl (by decide +kernel) rfl rfl (Nat.le_of_ble_eq_true rfl) dX2_record_12 (fun H locs hM hS => ?_)
  have hM : mm_P Z.1 mm_cl A (mm_U M_14 q_4 (.inr (32, [.int 3, .int 0, .ref q_8, .null, .null]))) H := hM
  have hc_15 : (mm_U M_14 q_4 (.inr (32, [.int 3, .int 0, .ref q_8, .null, .null]))) q_4 = some (.inr (32, [.int 3, .int 0, .ref q_8, .null, .null])) := mm_U_eq
  have hc_16 : (mm_U M_14 q_4 (.inr (32, [.int 3, .int 0, .ref q_8, .null, .null]))) q_8 = some (.inl (Z.2.1 9, 10, .inr (.inr (.inr (.inr (fun _ => none)))))) := (mm_U_ne (Ne.symm ne_10)).trans hc_12
  obtain ⟨M_17, eM_17⟩ : ∃ z, z = mm_U M_14 q_4 (.inr (32, [.int 3, .int 0, .ref q_8, .null, .null])) := ⟨_, rfl⟩
  rw [← eM_17] at hM hc_15 hc_16
  refine lv_iconst (v := 0) hx hb dX2_record_15 (by decide) ?_
  refine lv_istore hx hb dX2_record_16 hl (by decide) rfl (fun ls hl => ?_)
  replace hl : lv_has ls 5 [(4, .int 0), (3, .ref q_4), (0, va_rf fo), (1, .int lb), (2, va_rf its)] := hl
  have hn_b : M q_4 = none := nq_5
  have hn_q : M q_8 = none := nn_11
  have hex0 : mm_Ext M M_17 := by subst eM_17 eM_14 eM_7; exact (((mm_Ext.rf M).UU hn_b).UU hn_q).UU hn_b
  refine mm_loopW (fun k M' ls cells slots => ∃ (i : Nat) (g : Nat → Option Nat), k = 10 - i ∧ i ≤ 10 ∧ lv_has ls 5 [(4, .int (nI i)), (3, .ref q_4), (0, va_rf fo), (1, .int lb), (2, va_rf its)] ∧ M' q_4 = some (mw_E 3 0 (some q_8) none none) ∧ M' q_8 = some (mv_A Z g) ∧ (∀ j, j < i → g j = if nI j = lb then its else f j) ∧ mm_Ext M M' ∧ cells ≤ 2 ∧ slots ≤ 15) (fun k M3 ls H locs cells slots ih hI hM hS => ?_) ⟨0, _, rfl, by omega, lv_sub hl [0, 1, 2, 3, 4] rfl, hc_15, hc_16, fun j h => absurd h (Nat.not_lt_zero j), hex0, by (try dsimp only); omega, by (try dsimp only); omega⟩ hM hS
  obtain ⟨i, g, rfl, hi10, hl, hb3, hq3, hg3, hex3, hc3, hs3⟩ := hI
  refine lv_iload hx hb dX2_record_18 (lv_at hl 0 rfl) ?_
  refine lv_bipush (v := 10) hx hb dX2_record_20 (by decide) ?_
  refine lv_icmp_ge (tgt := 63) hx hb dX2_record_22 (by decide) (fun c_18 => ?_) (fun c_18 => ?_)
  · skip
    obtain rfl : i = 10 := by have := (nI_leI (a := 10) (b := i) (by omega) (by omega)).1 c_18; omega
    refine lv_aload_n hx hb dX2_record_63 rfl (lv_at hl 1 rfl) ?_
    exact mm_reta hx hb hr (Or.inl ⟨_, rfl⟩) (Or.inr ⟨_, rfl⟩) hlk hM hS ⟨q_4, q_8, g, rfl, hb3, hq3, hg3, hex3⟩ dX2_record_64 (by (try dsimp only); omega) (by (try dsimp only); omega)
  · skip
    have hi : i < 10 := (nI_ltI (b := 10) (by omega) (by omega)).1 (Int32.not_le.1 c_18)
    refine lv_aload_n hx hb dX2_record_25 rfl (lv_at hl 1 rfl) ?_
    refine va_get (D := Z.1) (ci := 32) (v := .ref q_8) (C := RX38) (T := TX38) (N := 5) hx hb hts in_X38 hown hE.1 (hM.at hb3) 0 rfl mm_cX38 2 (by decide) (hts _ q2784) (fun _ h9 => h9) rfl dX2_record_26 ?_
    refine lv_iload hx hb dX2_record_29 (lv_at hl 0 rfl) ?_
    refine lv_iload hx hb dX2_record_31 (lv_at hl 0 rfl) ?_
    refine lv_iload_n hx hb dX2_record_33 rfl (lv_at hl 3 rfl) ?_
    refine lv_icmp_ne (tgt := 41) hx hb dX2_record_34 (by decide) (fun c_19 => ?_) (fun c_19 => ?_)
    · skip
      refine mm_aload_n hx hb dX2_record_41 rfl (lv_at hl 2 rfl) ?_
      have hnf : fo = none ∨ ∃ fa, fo = some fa := by cases fo with | none => exact Or.inl rfl | some fa => exact Or.inr ⟨fa, rfl⟩
      rcases hnf with rfl | ⟨fa, rfl⟩
      · skip
        refine lv_ifnonnullN hx hb dX2_record_42 ?_
        refine lv_null hx hb dX2_record_45 ?_
        refine lv_goto (tgt := 56) hx hb dX2_record_46 (by decide) ?_
        refine mm_aastW (r := none) (k := i) hx hb hE hM hS hq3 (fun v h => by cases h) rfl hi (by decide) dX2_record_56 (fun H locs hM hS => ?_)
        have hM : mm_P Z.1 mm_cl A (mm_U M3 q_8 (.inl (Z.2.1 9, 10, .inr (.inr (.inr (.inr (va_up g i none))))))) H := hM
        have hc_20 : (mm_U M3 q_8 (.inl (Z.2.1 9, 10, .inr (.inr (.inr (.inr (va_up g i none))))))) q_8 = some (.inl (Z.2.1 9, 10, .inr (.inr (.inr (.inr (va_up g i none)))))) := mm_U_eq
        have hc_21 : (mm_U M3 q_8 (.inl (Z.2.1 9, 10, .inr (.inr (.inr (.inr (va_up g i none))))))) q_4 = some (.inr (32, [.int 3, .int 0, .ref q_8, .null, .null])) := (mm_U_ne (Ne.symm (mm_neA hq3 hb3))).trans hb3
        obtain ⟨M_22, eM_22⟩ : ∃ z, z = mm_U M3 q_8 (.inl (Z.2.1 9, 10, .inr (.inr (.inr (.inr (va_up g i none)))))) := ⟨_, rfl⟩
        rw [← eM_22] at hM hc_21 hc_20
        obtain ⟨x_23, ex_23⟩ : ∃ z : Int32, z = (nI i) + 1 := ⟨_, rfl⟩
        refine lv_iinc (v := x_23) (lv' := [(4, .int x_23), (3, .ref q_4), (0, .null), (1, .int lb), (2, va_rf its)]) hx hb dX2_record_57 hl (k := 0) rfl (by rw [ex_23]; rfl) (by decide) rfl (fun ls hl => ?_)
        rw [show x_23 = nI (i + 1) from by rw [ex_23]; exact nI_1 i] at hl
        refine lv_goto (tgt := 18) hx hb dX2_record_60 (by decide) ?_
        refine ih (10 - (i + 1)) (by omega) _ _ _ _ _ _ ⟨i + 1, _, rfl, hi, lv_sub hl [0, 1, 2, 3, 4] rfl, hc_21, hc_20, fun j hj => ?_, by rw [eM_22]; exact hex3.UU hn_q, hc3, hs3⟩ hM hS
        by_cases hji : j = i
        · subst hji; simp [va_up, c_19, hfn rfl]
        · simp only [va_up, if_neg hji]; exact hg3 j (by omega)
      · skip
        obtain ⟨fq, hfa, hfq⟩ := hfo fa rfl
        have hfa3 := hex3.at hfa
        have hfq3 : M3 fq = some (mv_A Z f) := (hex3 fq (by rw [hfq]; exact fun h9 => by cases h9)).trans hfq
        have nfq : fq ≠ q_8 := mm_neN hfq hn_q
        have nfa : fa ≠ q_4 := mm_neN hfa hn_b
        refine lv_ifnonnull (tgt := 49) hx hb dX2_record_42 (by decide) ?_
        refine lv_aload_n hx hb dX2_record_49 rfl (lv_at hl 2 rfl) ?_
        refine va_get (D := Z.1) (ci := 32) (v := .ref fq) (C := RX38) (T := TX38) (N := 5) hx hb hts in_X38 hown hE.1 (hM.at hfa3) 0 rfl mm_cX38 2 (by decide) (hts _ q2784) (fun _ h9 => h9) rfl dX2_record_50 ?_
        refine lv_iload hx hb dX2_record_53 (lv_at hl 0 rfl) ?_
        refine mm_aald (k := i) hx hb hE hM 9 hfq3 rfl rfl hi (by decide) dX2_record_55 ?_
        refine mm_aastW (r := (f i)) (k := i) hx hb hE hM hS hq3 (fun v h => by obtain ⟨fs9, h8⟩ := hfW i v hi h; exact ⟨fs9, hex3.at h8⟩) rfl hi (by decide) dX2_record_56 (fun H locs hM hS => ?_)
        have hM : mm_P Z.1 mm_cl A (mm_U M3 q_8 (.inl (Z.2.1 9, 10, .inr (.inr (.inr (.inr (va_up g i (f i)))))))) H := hM
        have hc_20 : (mm_U M3 q_8 (.inl (Z.2.1 9, 10, .inr (.inr (.inr (.inr (va_up g i (f i)))))))) q_8 = some (.inl (Z.2.1 9, 10, .inr (.inr (.inr (.inr (va_up g i (f i))))))) := mm_U_eq
        have hc_21 : (mm_U M3 q_8 (.inl (Z.2.1 9, 10, .inr (.inr (.inr (.inr (va_up g i (f i)))))))) q_4 = some (.inr (32, [.int 3, .int 0, .ref q_8, .null, .null])) := (mm_U_ne (Ne.symm (mm_neA hq3 hb3))).trans hb3
        have hc_22 : (mm_U M3 q_8 (.inl (Z.2.1 9, 10, .inr (.inr (.inr (.inr (va_up g i (f i)))))))) fa = some (.inr (32, [.int 3, .int 0, .ref fq, .null, .null])) := (mm_U_ne (Ne.symm (mm_neA hq3 hfa3))).trans hfa3
        have hc_23 : (mm_U M3 q_8 (.inl (Z.2.1 9, 10, .inr (.inr (.inr (.inr (va_up g i (f i)))))))) fq = some (.inl (Z.2.1 9, 10, .inr (.inr (.inr (.inr f))))) := (mm_U_ne nfq).trans hfq3
        obtain ⟨M_24, eM_24⟩ : ∃ z, z = mm_U M3 q_8 (.inl (Z.2.1 9, 10, .inr (.inr (.inr (.inr (va_up g i (f i))))))) := ⟨_, rfl⟩
        rw [← eM_24] at hM hc_21 hc_20 hc_22 hc_23
        obtain ⟨x_25, ex_25⟩ : ∃ z : Int32, z = (nI i) + 1 := ⟨_, rfl⟩
        refine lv_iinc (v := x_25) (lv' := [(4, .int x_25), (3, .ref q_4), (0, .ref fa), (1, .int lb), (2, va_rf its)]) hx hb dX2_record_57 hl (k := 0) rfl (by rw [ex_25]; rfl) (by decide) rfl (fun ls hl => ?_)
        rw [show x_25 = nI (i + 1) from by rw [ex_25]; exact nI_1 i] at hl
        refine lv_goto (tgt := 18) hx hb dX2_record_60 (by decide) ?_
        refine ih (10 - (i + 1)) (by omega) _ _ _ _ _ _ ⟨i + 1, _, rfl, hi, lv_sub hl [0, 1, 2, 3, 4] rfl, hc_21, hc_20, fun j hj => ?_, by rw [eM_24]; exact hex3.UU hn_q, hc3, hs3⟩ hM hS
        by_cases hji : j = i
        · subst hji; simp [va_up, c_19]
        · simp only [va_up, if_neg hji]; exact hg3 j (by omega)
    · skip
      refine mm_aload_n hx hb dX2_record_37 rfl (lv_at hl 4 rfl) ?_
      refine lv_goto (tgt := 56) hx hb dX2_record_38 (by decide) ?_
      refine mm_aastW (r := its) (k := i) hx hb hE hM hS hq3 (fun v h => by obtain ⟨fs9, h8⟩ := hiW v h; exact ⟨fs9, hex3.at h8⟩) rfl hi (by decide) dX2_record_56 (fun H locs hM hS => ?_)
      have hM : mm_P Z.1 mm_cl A (mm_U M3 q_8 (.inl (Z.2.1 9, 10, .inr (.inr (.inr (.inr (va_up g i its))))))) H := hM
      have hc_20 : (mm_U M3 q_8 (.inl (Z.2.1 9, 10, .inr (.inr (.inr (.inr (va_up g i its))))))) q_8 = some (.inl (Z.2.1 9, 10, .inr (.inr (.inr (.inr (va_up g i its)))))) := mm_U_eq
      have hc_21 : (mm_U M3 q_8 (.inl (Z.2.1 9, 10, .inr (.inr (.inr (.inr (va_up g i its))))))) q_4 = some (.inr (32, [.int 3, .int 0, .ref q_8, .null, .null])) := (mm_U_ne (Ne.symm (mm_neA hq3 hb3))).trans hb3
      obtain ⟨M_22, eM_22⟩ : ∃ z, z = mm_U M3 q_8 (.inl (Z.2.1 9, 10, .inr (.inr (.inr (.inr (va_up g i its)))))) := ⟨_, rfl⟩
      rw [← eM_22] at hM hc_21 hc_20
      obtain ⟨x_23, ex_23⟩ : ∃ z : Int32, z = (nI i) + 1 := ⟨_, rfl⟩
      refine lv_iinc (v := x_23) (lv' := [(4, .int x_23), (3, .ref q_4), (0, va_rf fo), (1, .int lb), (2, va_rf its)]) hx hb dX2_record_57 hl (k := 0) rfl (by rw [ex_23]; rfl) (by decide) rfl (fun ls hl => ?_)
      rw [show x_23 = nI (i + 1) from by rw [ex_23]; exact nI_1 i] at hl
      refine lv_goto (tgt := 18) hx hb dX2_record_60 (by decide) ?_
      refine ih (10 - (i + 1)) (by omega) _ _ _ _ _ _ ⟨i + 1, _, rfl, hi, lv_sub hl [0, 1, 2, 3, 4] rfl, hc_21, hc_20, fun j hj => ?_, by rw [eM_22]; exact hex3.UU hn_q, hc3, hs3⟩ hM hS
      by_cases hji : j = i
      · subst hji; simp [va_up, c_19]
      · simp only [va_up, if_neg hji]; exact hg3 j (by omega)
