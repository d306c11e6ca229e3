/-! ===== join: both sides open ===== -/
set_option maxRecDepth 100000
set_option maxHeartbeats 4000000 in
set_option maxRecDepth 100000 in
theorem d_X1_join_3 (l : Launch) (Z : mm_G) {M : mm_M} (htr : l.stackTraces = false) {L : List Nat} {vr : Nat → Nat} {S : ts} {f1 f2 : Nat → Option ev} {own its lb1 lb2 : Int32} {one other : Nat} (hC : uCI Z M L vr S) (hs1 : ∀ l, l < 10 → uhs own l = true → f1 l ≠ none) (hs2 : ∀ l, l < 10 → uhs its l = true → f2 l ≠ none) {v w Hh b9 : Nat} (hvw : v ≠ w) (h1 : uFA Z M L vr S one f1 lb1 (some v)) (h2 : uFA Z M L vr S other f2 lb2 (some w)) (hB9 : uB Z M L vr S b9) (hH : 2 * b9 + 3 ≤ Hh) : mm_D l Z yX1_join (ws_ yX1_join cX1_join 5 none) { frames := Hh + L.length + 21, cells := 31, slots := 100, locals := 25 * Hh + 20 * L.length + 920 } [.ref one, .ref other, .int own, .int its] M (jP Z M L vr S (tJoin S f1 f2 (some v) (some w) own its) (some v) (some w)) (fun E q M' => ∃ er, (tJoin S f1 f2 (some v) (some w) own its) = .inl er ∧ uX M er E q M') := by
  refine mm_ofWD (cc := cX1_join) (maxL := 5) (ret := none) (by decide) rfl (Nat.le_of_ble_eq_true rfl) ?_
  intro p e s m below meth c A ls hx hb hr hlk hml hown hmn hts htab hE hST hA hM hS hl
  replace hl : lv_has ls 5 [(0, .ref one), (1, .ref other), (2, .int own), (3, .int its)] := hl
  obtain ⟨q1, ar1, xs1, hf1, hA1, hX1, ht1⟩ := h1
  obtain ⟨q2, ar2, xs2, hf2, hA2, hX2, ht2⟩ := h2
  obtain ⟨hv, htv, hnv⟩ := ht1 v rfl
  obtain ⟨hw, htw, hnw⟩ := ht2 w rfl
  obtain ⟨hcv, hsv⟩ := hC.rootR hv htv hnv
  obtain ⟨hcw, hsw⟩ := hC.rootR hw htw hnw
  obtain ⟨g1, hG1, hfg1⟩ := hX1.G
  obtain ⟨g2, hG2, hfg2⟩ := hX2.G
  have hvrn : vr v ≠ vr w := fun h9 => hvw (hC.1.2.2.1 v w hv hw h9)
  refine va_gets hx hb (hST.1 _ (List.mem_of_getElem? (i := 1) rfl)) hS hown (hts _ q1238) (fun _ h9 => h9) dX1_join_0 ?_
  refine lv_astore hx hb dX1_join_3 hl (by decide) rfl (fun ls hl => ?_)
  replace hl : lv_has ls 5 [(4, .ref (Z.2.2.1 1)), (0, .ref one), (1, .ref other), (2, .int own), (3, .int its)] := hl
  refine lv_aload_n hx hb dX1_join_5 rfl (lv_at hl 1 rfl) ?_
  refine va_getN (D := Z.1) (ci := 17) (v := .ref (vr v)) (C := RX22) (T := TX22) (N := 3) hx hb hts in_X22 hown hE.1 (hM.at hf1) 0 rfl mm_cX22 1 (by decide) (va_Nw.use rfl (hE.2.1 _ q1217 rfl)) (fun _ h9 => h9) rfl dX1_join_6 ?_
  refine lv_ifnull hx hb dX1_join_9 ?_
  refine lv_aload_n hx hb dX1_join_12 rfl (lv_at hl 2 rfl) ?_
  refine va_getN (D := Z.1) (ci := 17) (v := .ref (vr w)) (C := RX22) (T := TX22) (N := 3) hx hb hts in_X22 hown hE.1 (hM.at hf2) 0 rfl mm_cX22 1 (by decide) (va_Nw.use rfl (hE.2.1 _ q1217 rfl)) (fun _ h9 => h9) rfl dX1_join_13 ?_
  refine lv_ifnull hx hb dX1_join_16 ?_
  refine mm_new (D := Z.1) (ci := 12) (fs := mm_f0X15) (C := RX15) (T := TX15) (N := 4) hx hb hts in_X15 tyX15 tyX15_ok hown (hts _ q1239) (hts _ q915) (hts _ q82) hE.1 hM hS hA mm_cX15 mm_dfX15 (by (try dsimp only); omega) (by (try dsimp only); omega) dX1_join_19 (fun q_2 H nq_1 hM hS => ?_)
  have hM : mm_P Z.1 mm_cl A (mm_U M q_2 (.inr (12, [.null, .int 0, .int 0, .int 0]))) H := hM
  have ne_3 : one ≠ q_2 := (mm_neN hf1 nq_1)
  have ne_4 : other ≠ q_2 := (mm_neN hf2 nq_1)
  have ne_5 : (vr v) ≠ q_2 := (mm_neN hcv nq_1)
  have ne_6 : (vr w) ≠ q_2 := (mm_neN hcw nq_1)
  have hc_7 : (mm_U M q_2 (.inr (12, [.null, .int 0, .int 0, .int 0]))) q_2 = some (.inr (12, [.null, .int 0, .int 0, .int 0])) := mm_U_eq
  have hc_8 : (mm_U M q_2 (.inr (12, [.null, .int 0, .int 0, .int 0]))) one = some (.inr (17, [.ref q1, .ref (vr v), .int lb1])) := (mm_U_ne ne_3).trans hf1
  have hc_9 : (mm_U M q_2 (.inr (12, [.null, .int 0, .int 0, .int 0]))) other = some (.inr (17, [.ref q2, .ref (vr w), .int lb2])) := (mm_U_ne ne_4).trans hf2
  have hc_10 : (mm_U M q_2 (.inr (12, [.null, .int 0, .int 0, .int 0]))) (vr v) = some (.inr (12, [.null, .int (S.2.2.2.2 v), .int (mm_b (S.2.2.1 v)), .int (S.2.2.2.1 v)])) := (mm_U_ne ne_5).trans hcv
  have hc_11 : (mm_U M q_2 (.inr (12, [.null, .int 0, .int 0, .int 0]))) (vr w) = some (.inr (12, [.null, .int (S.2.2.2.2 w), .int (mm_b (S.2.2.1 w)), .int (S.2.2.2.1 w)])) := (mm_U_ne ne_6).trans hcw
  obtain ⟨M_12, eM_12⟩ : ∃ z, z = mm_U M q_2 (.inr (12, [.null, .int 0, .int 0, .int 0])) := ⟨_, rfl⟩
  rw [← eM_12] at hM hc_8 hc_9 hc_10 hc_11 hc_7
  refine lv_dup hx hb dX1_join_22 rfl ?_
  refine lv_aload_n hx hb dX1_join_23 rfl (lv_at hl 1 rfl) ?_
  refine va_getN (D := Z.1) (ci := 17) (v := .ref (vr v)) (C := RX22) (T := TX22) (N := 3) hx hb hts in_X22 hown hE.1 (hM.at hc_8) 0 rfl mm_cX22 1 (by decide) (va_Nw.use rfl (hE.2.1 _ q1217 rfl)) (fun _ h9 => h9) rfl dX1_join_24 ?_
  refine va_getN (D := Z.1) (ci := 12) (v := .int (S.2.2.2.2 v)) (C := RX15) (T := TX15) (N := 4) hx hb hts in_X15 hown hE.1 (hM.at hc_10) 0 rfl mm_cX15 1 (by decide) (va_Nw.use rfl (hE.2.1 _ q926 rfl)) (fun _ h9 => h9) rfl dX1_join_27 ?_
  refine lv_aload_n hx hb dX1_join_30 rfl (lv_at hl 2 rfl) ?_
  refine va_getN (D := Z.1) (ci := 17) (v := .ref (vr w)) (C := RX22) (T := TX22) (N := 3) hx hb hts in_X22 hown hE.1 (hM.at hc_9) 0 rfl mm_cX22 1 (by decide) (va_Nw.use rfl (hE.2.1 _ q1217 rfl)) (fun _ h9 => h9) rfl dX1_join_31 ?_
  refine va_getN (D := Z.1) (ci := 12) (v := .int (S.2.2.2.2 w)) (C := RX15) (T := TX15) (N := 4) hx hb hts in_X15 hown hE.1 (hM.at hc_11) 0 rfl mm_cX15 1 (by decide) (va_Nw.use rfl (hE.2.1 _ q926 rfl)) (fun _ h9 => h9) rfl dX1_join_34 ?_
  refine va_mmin hx hb (hml.trans hl.1.symm) hown (hts _ q1240) (hts _ q427) (hts _ q62) (hts _ q428) (by (try dsimp only); omega) (by (try dsimp only); simp only [List.map, List.sum_cons, List.sum_nil, mm_cat_o, mm_cat_r, mm_cat_i, mm_cat_n, mm_cat_l]; (try dsimp only); omega) (by (try dsimp only); omega) (by (try dsimp only); omega) dX1_join_37 ?_
  rw [show ((if (S.2.2.2.2 w) < (S.2.2.2.2 v) then (S.2.2.2.2 w) else (S.2.2.2.2 v)) : Int32) = umi (S.2.2.2.2 v) (S.2.2.2.2 w) from umi_min _ _]
  refine lv_aload_n hx hb dX1_join_40 rfl (lv_at hl 1 rfl) ?_
  refine va_getN (D := Z.1) (ci := 17) (v := .ref (vr v)) (C := RX22) (T := TX22) (N := 3) hx hb hts in_X22 hown hE.1 (hM.at hc_8) 0 rfl mm_cX22 1 (by decide) (va_Nw.use rfl (hE.2.1 _ q1217 rfl)) (fun _ h9 => h9) rfl dX1_join_41 ?_
  refine va_getN (D := Z.1) (ci := 12) (v := .int (mm_b (S.2.2.1 v))) (C := RX15) (T := TX15) (N := 4) hx hb hts in_X15 hown hE.1 (hM.at hc_10) 0 rfl mm_cX15 2 (by decide) (va_Nw.use rfl (hE.2.1 _ q930 rfl)) (fun _ h9 => h9) rfl dX1_join_44 ?_
  refine mm_cutW (v0 := mm_b (S.2.2.1 v || S.2.2.1 w)) (pc2 := 65) (ls := ls) (rest := [.int (umi (S.2.2.2.2 v) (S.2.2.2.2 w)), .ref q_2, .ref q_2]) (M := M_12) (fun kk => ?_) (fun H locs hM hS => ?_) hM hS
  · skip
    refine lv_if_ne (tgt := 60) hx hb dX1_join_47 (by decide) (fun c_13 => ?_) (fun c_13 => ?_)
    · skip
      have e9 : S.2.2.1 v = true := by cases h8 : S.2.2.1 v with | true => rfl | false => exact absurd ((mm_b_0 _).2 h8) c_13
      refine lv_iconst (v := 1) hx hb dX1_join_60 (by decide) ?_
      refine lv_goto (tgt := 65) hx hb dX1_join_61 (by decide) ?_
      exact kk _ _ _ hM hS (by rw [e9]; rfl)
    · skip
      have e9 : S.2.2.1 v = false := (mm_b_0 _).1 c_13
      refine lv_aload_n hx hb dX1_join_50 rfl (lv_at hl 2 rfl) ?_
      refine va_getN (D := Z.1) (ci := 17) (v := .ref (vr w)) (C := RX22) (T := TX22) (N := 3) hx hb hts in_X22 hown hE.1 (hM.at hc_9) 0 rfl mm_cX22 1 (by decide) (va_Nw.use rfl (hE.2.1 _ q1217 rfl)) (fun _ h9 => h9) rfl dX1_join_51 ?_
      refine va_getN (D := Z.1) (ci := 12) (v := .int (mm_b (S.2.2.1 w))) (C := RX15) (T := TX15) (N := 4) hx hb hts in_X15 hown hE.1 (hM.at hc_11) 0 rfl mm_cX15 2 (by decide) (va_Nw.use rfl (hE.2.1 _ q930 rfl)) (fun _ h9 => h9) rfl dX1_join_54 ?_
      refine lv_if_eq (tgt := 64) hx hb dX1_join_57 (by decide) (fun c_14 => ?_) (fun c_14 => ?_)
      · skip
        have e8 : S.2.2.1 w = false := (mm_b_0 _).1 c_14
        refine lv_iconst (v := 0) hx hb dX1_join_64 (by decide) ?_
        exact kk _ _ _ hM hS (by rw [e9, e8]; rfl)
      · skip
        have e8 : S.2.2.1 w = true := by cases h8 : S.2.2.1 w with | true => rfl | false => exact absurd ((mm_b_0 _).2 h8) c_14
        refine lv_iconst (v := 1) hx hb dX1_join_60 (by decide) ?_
        refine lv_goto (tgt := 65) hx hb dX1_join_61 (by decide) ?_
        exact kk _ _ _ hM hS (by rw [e9, e8]; rfl)
  refine lv_aload_n hx hb dX1_join_65 rfl (lv_at hl 1 rfl) ?_
  refine va_getN (D := Z.1) (ci := 17) (v := .ref (vr v)) (C := RX22) (T := TX22) (N := 3) hx hb hts in_X22 hown hE.1 (hM.at hc_8) 0 rfl mm_cX22 1 (by decide) (va_Nw.use rfl (hE.2.1 _ q1217 rfl)) (fun _ h9 => h9) rfl dX1_join_66 ?_
  refine va_getN (D := Z.1) (ci := 12) (v := .int (S.2.2.2.1 v)) (C := RX15) (T := TX15) (N := 4) hx hb hts in_X15 hown hE.1 (hM.at hc_10) 0 rfl mm_cX15 3 (by decide) (va_Nw.use rfl (hE.2.1 _ q934 rfl)) (fun _ h9 => h9) rfl dX1_join_69 ?_
  refine lv_aload_n hx hb dX1_join_72 rfl (lv_at hl 2 rfl) ?_
  refine va_getN (D := Z.1) (ci := 17) (v := .ref (vr w)) (C := RX22) (T := TX22) (N := 3) hx hb hts in_X22 hown hE.1 (hM.at hc_9) 0 rfl mm_cX22 1 (by decide) (va_Nw.use rfl (hE.2.1 _ q1217 rfl)) (fun _ h9 => h9) rfl dX1_join_73 ?_
  refine va_getN (D := Z.1) (ci := 12) (v := .int (S.2.2.2.1 w)) (C := RX15) (T := TX15) (N := 4) hx hb hts in_X15 hown hE.1 (hM.at hc_11) 0 rfl mm_cX15 3 (by decide) (va_Nw.use rfl (hE.2.1 _ q934 rfl)) (fun _ h9 => h9) rfl dX1_join_76 ?_
  refine lv_ior hx hb dX1_join_79 ?_
  refine mm_callI (As := [.int (umi (S.2.2.2.2 v) (S.2.2.2.2 w)), .int (mm_b (S.2.2.1 v || S.2.2.1 w)), .int ((S.2.2.2.1 v) ||| (S.2.2.2.1 w))]) (rest := [.ref q_2]) ⟨hx, hb, hml, hown, hts⟩ hE hST hA (c_X15_init l Z (M := M_12) (h0 := q_2) (x1 := (umi (S.2.2.2.2 v) (S.2.2.2.2 w))) (x2 := (S.2.2.1 v || S.2.2.1 w)) (x3 := ((S.2.2.2.1 v) ||| (S.2.2.2.1 w))) hc_7) (cwI (maxL := 4) 3 hts (lw_meth q918) rfl rfl rfl (hts _ q82) (hts _ q1241) (hts _ q917) rfl (by decide +kernel) ⟨(by (try dsimp only); omega), (by (try dsimp only); omega)⟩) hM hS rfl hl.1 (Nat.le_of_ble_eq_true rfl) dX1_join_80 rfl ⟨(by (try dsimp only); omega), (by (try dsimp only); omega)⟩ (fun _ _ _ _ _ _ h9 => h9.elim) (fun v_13 M_14 H locs hp_15 hM hS => ?_)
  obtain ⟨rfl, eM_14⟩ := hp_15
  rw [eM_14] at hM
  replace hM : mm_P Z.1 mm_cl A (mm_U M_12 q_2 (.inr (12, [.null, .int (umi (S.2.2.2.2 v) (S.2.2.2.2 w)), .int (mm_b (S.2.2.1 v || S.2.2.1 w)), .int ((S.2.2.2.1 v) ||| (S.2.2.2.1 w))]))) H := hM
  have hc_16 : (mm_U M_12 q_2 (.inr (12, [.null, .int (umi (S.2.2.2.2 v) (S.2.2.2.2 w)), .int (mm_b (S.2.2.1 v || S.2.2.1 w)), .int ((S.2.2.2.1 v) ||| (S.2.2.2.1 w))]))) q_2 = some (.inr (12, [.null, .int (umi (S.2.2.2.2 v) (S.2.2.2.2 w)), .int (mm_b (S.2.2.1 v || S.2.2.1 w)), .int ((S.2.2.2.1 v) ||| (S.2.2.2.1 w))])) := mm_U_eq
  have hc_17 : (mm_U M_12 q_2 (.inr (12, [.null, .int (umi (S.2.2.2.2 v) (S.2.2.2.2 w)), .int (mm_b (S.2.2.1 v || S.2.2.1 w)), .int ((S.2.2.2.1 v) ||| (S.2.2.2.1 w))]))) one = some (.inr (17, [.ref q1, .ref (vr v), .int lb1])) := (mm_U_ne ne_3).trans hc_8
  have hc_18 : (mm_U M_12 q_2 (.inr (12, [.null, .int (umi (S.2.2.2.2 v) (S.2.2.2.2 w)), .int (mm_b (S.2.2.1 v || S.2.2.1 w)), .int ((S.2.2.2.1 v) ||| (S.2.2.2.1 w))]))) other = some (.inr (17, [.ref q2, .ref (vr w), .int lb2])) := (mm_U_ne ne_4).trans hc_9
  have hc_19 : (mm_U M_12 q_2 (.inr (12, [.null, .int (umi (S.2.2.2.2 v) (S.2.2.2.2 w)), .int (mm_b (S.2.2.1 v || S.2.2.1 w)), .int ((S.2.2.2.1 v) ||| (S.2.2.2.1 w))]))) (vr v) = some (.inr (12, [.null, .int (S.2.2.2.2 v), .int (mm_b (S.2.2.1 v)), .int (S.2.2.2.1 v)])) := (mm_U_ne ne_5).trans hc_10
  have hc_20 : (mm_U M_12 q_2 (.inr (12, [.null, .int (umi (S.2.2.2.2 v) (S.2.2.2.2 w)), .int (mm_b (S.2.2.1 v || S.2.2.1 w)), .int ((S.2.2.2.1 v) ||| (S.2.2.2.1 w))]))) (vr w) = some (.inr (12, [.null, .int (S.2.2.2.2 w), .int (mm_b (S.2.2.1 w)), .int (S.2.2.2.1 w)])) := (mm_U_ne ne_6).trans hc_11
  obtain ⟨M_21, eM_21⟩ : ∃ z, z = mm_U M_12 q_2 (.inr (12, [.null, .int (umi (S.2.2.2.2 v) (S.2.2.2.2 w)), .int (mm_b (S.2.2.1 v || S.2.2.1 w)), .int ((S.2.2.2.1 v) ||| (S.2.2.2.1 w))])) := ⟨_, rfl⟩
  rw [← eM_21] at hM hc_17 hc_18 hc_19 hc_20 hc_16
  refine lv_astore hx hb dX1_join_83 hl (by decide) rfl (fun ls hl => ?_)
  replace hl : lv_has ls 5 [(4, .ref q_2), (0, .ref one), (1, .ref other), (2, .int own), (3, .int its)] := hl
  have hex1 : mm_Ext M M_21 := by subst eM_21 eM_12; (try rw [mm_U_U]); exact mm_Ext.U nq_1
  obtain ⟨hC1, hP1⟩ := hC.newVar hex1 nq_1 (lv := umi (S.2.2.2.2 v) (S.2.2.2.2 w)) (lk := S.2.2.1 v || S.2.2.1 w) (lc := S.2.2.2.1 v ||| S.2.2.2.1 w) (Or.inr hc_16)
  have hvr : ∀ u, u < S.1 → uvr vr S.1 q_2 u = vr u := fun u hu => uvr_lt hu
  have hqv : ∀ u, u < S.1 → q_2 ≠ vr u := fun u hu h9 => by rcases (hC.2.1 u hu).2 with ⟨bd, h8, -⟩ | ⟨bd, h8, -⟩ <;> (rw [← h9, nq_1] at h8; cases h8)
  have hte1 : tp Z M_21 (q_2 :: L) (uvr vr S.1 q_2) (S.1 + 1) (.var S.1) true q_2 := by unfold tp; exact ⟨Nat.lt_succ_self _, uvr_n.symm, List.mem_cons_self, none, _, _, _, hc_16⟩
  have hne1 : unext M_21 q_2 = none := unext_cr (bd := none) hc_16
  have hln9 : (q_2 :: L).length = L.length + 1 := rfl
  have huh9 : uh (uap (ts_new S (umi (S.2.2.2.2 v) (S.2.2.2.2 w)) (S.2.2.1 v || S.2.2.1 w) (S.2.2.2.1 v ||| S.2.2.2.1 w)).2.1 (usome g1 own (.var S.1) 10)) = uh (uap S.2.1 (usome g1 own (.var S.1) 10)) := rfl
  have hJ : (tJoin S f1 f2 (some v) (some w) own its) = te_b (tClose (ts_new S (umi (S.2.2.2.2 v) (S.2.2.2.2 w)) (S.2.2.1 v || S.2.2.1 w) (S.2.2.2.1 v ||| S.2.2.2.1 w)) w (usome f1 own (.var S.1) 10)) fun S1 => te_b (tClose S1 v (usome f2 its (.var S.1) 10)) fun S2 => te_b (if S2.2.2.1 w then tLike S2 (S2.2.1 w) else .inr S2) fun S3 => if S3.2.2.1 v then tLike S3 (S3.2.1 v) else .inr S3 := rfl
  refine lv_aload_n hx hb dX1_join_85 rfl (lv_at hl 2 rfl) ?_
  refine va_getN (D := Z.1) (ci := 17) (v := .ref (vr w)) (C := RX22) (T := TX22) (N := 3) hx hb hts in_X22 hown hE.1 (hM.at hc_18) 0 rfl mm_cX22 1 (by decide) (va_Nw.use rfl (hE.2.1 _ q1217 rfl)) (fun _ h9 => h9) rfl dX1_join_86 ?_
  refine lv_ifnull hx hb dX1_join_89 ?_
  refine lv_aload_n hx hb dX1_join_92 rfl (lv_at hl 2 rfl) ?_
  refine va_getN (D := Z.1) (ci := 17) (v := .ref (vr w)) (C := RX22) (T := TX22) (N := 3) hx hb hts in_X22 hown hE.1 (hM.at hc_18) 0 rfl mm_cX22 1 (by decide) (va_Nw.use rfl (hE.2.1 _ q1217 rfl)) (fun _ h9 => h9) rfl dX1_join_93 ?_
  refine lv_aload_n hx hb dX1_join_96 rfl (lv_at hl 1 rfl) ?_
  refine lv_iload_n hx hb dX1_join_97 rfl (lv_at hl 3 rfl) ?_
  refine lv_aload hx hb dX1_join_98 (lv_at hl 0 rfl) ?_
  refine mm_callVD (As := [.int own, .ref q_2]) (rest := [.ref (vr w)]) ⟨hx, hb, hml, hown, hts⟩ hE hST hA (d_X22_some l Z (q := q1) (tl := some (vr v)) (lb := lb1) (L := q_2 :: L) (vr := uvr vr S.1 q_2) (n := S.1 + 1) (er := .var S.1) (rb := q_2) hc_17 (hA1.ext hex1) (hG1.mono hex1.uK (fun _ h => List.mem_cons_of_mem _ h) hvr (Nat.le_succ _)) (fun l hl h9 h8 => hs1 l hl h9 (by rw [hfg1 l hl, h8]; rfl)) hte1 hne1) (cwV 2 hts (lw_V q1242 q1243 q1244 q90 q1245) rfl rfl rfl (by decide +kernel) ⟨(by (try dsimp only); omega), (by (try dsimp only); omega)⟩) hM hS mm_cX22 hc_17 rfl hl.1 (Nat.le_of_ble_eq_true rfl) dX1_join_100 rfl ⟨(by (try dsimp only); omega), (by (try dsimp only); omega)⟩ (fun _ _ _ _ _ _ h9 => h9.elim) (fun v_22 M_23 n_25 k_26 H locs hp_24 hM hS => ?_)
  obtain ⟨rr1, rfl, hn1, hk1, hex2, htr1, hur1⟩ := hp_24
  have hc_27 := hex2.at hc_17
  have hc_28 := hex2.at hc_18
  have hC2 := hC1.lite hex2
  have hex02 := hex1.trans hex2
  have hcg1 : tClose (ts_new S (umi (S.2.2.2.2 v) (S.2.2.2.2 w)) (S.2.2.1 v || S.2.2.1 w) (S.2.2.2.1 v ||| S.2.2.2.1 w)) w (usome g1 own (.var S.1) 10) = tClose (ts_new S (umi (S.2.2.2.2 v) (S.2.2.2.2 w)) (S.2.2.1 v || S.2.2.1 w) (S.2.2.2.1 v ||| S.2.2.2.1 w)) w (usome f1 own (.var S.1) 10) := tClose_cg (usome_cgu 10 _ _ (fun l hl => by rw [hfg1 l hl, Option.map_map]; congr 1; funext t9; exact (hC.1.1.le t9).symm) rfl)
  have hse1 : uap S.2.1 (usome g1 own (.var S.1) 10) = uap S.2.1 (usome f1 own (.var S.1) 10) := usome_cgu 10 _ _ (fun l hl => by rw [hfg1 l hl, Option.map_map]; congr 1; funext t9; exact (hC.1.1.le t9).symm) rfl
  have htq2 : tp Z M_23 (q_2 :: L) (uvr vr S.1 q_2) (S.1 + 1) (.var S.1) true q_2 := tp.mono hex2.uK (fun _ h => h) (fun _ _ => rfl) (Nat.le_refl _) _ _ _ hte1
  have hB2 := hB9.go hC hC2 hex02.uK (fun _ h => List.mem_cons_of_mem _ h) hvr (Nat.le_succ _) hC.1.1.le (uNewR hC2 htq2)
  have hH1 : uh (uap S.2.1 (usome g1 own (.var S.1) 10)) ≤ Hh := by have h9 : uh (uap S.2.1 (usome g1 own (.var S.1) 10)) ≤ _ := hC2.heightB hB2 htr1; simp only [Bool.toNat_true] at h9; omega
  rw [← hcg1] at hJ
  have hnxw : unext M_23 (vr w) = none := by unfold unext; rw [hex02.at hcw]; rfl
  have ht_29 : tp Z M_23 (q_2 :: L) (uvr vr S.1 q_2) (ts_new S (umi (S.2.2.2.2 v) (S.2.2.2.2 w)) (S.2.2.1 v || S.2.2.1 w) (S.2.2.2.1 v ||| S.2.2.2.1 w)).1 (.var w) true (uvr vr S.1 q_2 w) := by rw [hvr w hw]; exact tp.mono hex02.uK (fun _ h => List.mem_cons_of_mem _ h) hvr (Nat.le_succ _) _ _ _ htw
  have hr_30 := (hC2.rootR (by show w < S.1 + 1; omega) ht_29 (by rw [hvr w hw]; exact hnxw)).1
  have hcl_31 := d_X1_close l Z htr (S := (ts_new S (umi (S.2.2.2.2 v) (S.2.2.2.2 w)) (S.2.2.1 v || S.2.2.1 w) (S.2.2.2.1 v ||| S.2.2.2.1 w))) (v := w) (t := (usome g1 own (.var S.1) 10)) rfl hC2 (by show w < S.1 + 1; omega) hr_30 htr1 hur1
  rw [hvr w hw] at hcl_31
  refine mm_callSD (As := [.ref (vr w), .ref rr1]) (rest := []) ⟨hx, hb, hml, hown, hts⟩ hE hST hA hcl_31 (va_cwS 2 hts (lw_S q1249 q1250 q50 q1251) rfl rfl rfl (by decide +kernel) ⟨(by (try dsimp only); omega), (by (try dsimp only); omega)⟩) hM hS rfl hl.1 (Nat.le_of_ble_eq_true rfl) dX1_join_103 rfl ⟨(by (try dsimp only); omega), (by (try dsimp only); omega)⟩ (fun E ce q M9 H1 locs1 hp9 hM9 hS9 hce hcv9 hcl9 => by obtain ⟨er9, he9, hx9⟩ := hp9; exact mm_outxD htab hlk hM9 hS9 hce hcv9 hcl9 ⟨er9, by rw [hJ, he9]; rfl, hx9.afterK hex02.uK⟩ (by (try dsimp only); omega) (by (try dsimp only); omega)) (fun v_32 M_33 n_35 k_36 H locs hp_34 hM hS => ?_)
  obtain ⟨rfl, hn2, hk2, S1, hS1, hK3, hC3, hS11, hP3, hx3⟩ := hp_34
  have hKK3 := hex02.uK.trans hK3
  rw [hS1] at hJ
  have hc_37 := hK3.atC hc_27 (by decide)
  have hc_38 := hK3.atC hc_28 (by decide)
  have hle1 := tClose_le hC1.1.1 hS1
  have hqw := hqv w hw
  have hte3 : tp Z M_33 (q_2 :: L) (uvr vr S.1 q_2) S1.1 (.var S.1) true q_2 := by rw [hS11]; exact tp.mono (hex2.uK.trans hK3) (fun _ h => h) (fun _ _ => rfl) (Nat.le_refl _) _ _ _ hte1
  have hneQ : M_23 q_2 ≠ none := by obtain ⟨e9, h9⟩ := hte1.some; rw [hex2.at h9]; exact fun h8 => by cases h8
  have hne3 : unext M_33 q_2 = none := by rw [hx3 q_2 hneQ hqw]; obtain ⟨e9, h9⟩ := hte1.some; unfold unext; rw [hex2.at h9]; unfold unext at hne1; rw [h9] at hne1; exact hne1
  refine lv_aload_n hx hb dX1_join_106 rfl (lv_at hl 1 rfl) ?_
  refine va_getN (D := Z.1) (ci := 17) (v := .ref (vr v)) (C := RX22) (T := TX22) (N := 3) hx hb hts in_X22 hown hE.1 (hM.at hc_37) 0 rfl mm_cX22 1 (by decide) (va_Nw.use rfl (hE.2.1 _ q1217 rfl)) (fun _ h9 => h9) rfl dX1_join_107 ?_
  refine lv_ifnull hx hb dX1_join_110 ?_
  refine lv_aload_n hx hb dX1_join_113 rfl (lv_at hl 1 rfl) ?_
  refine va_getN (D := Z.1) (ci := 17) (v := .ref (vr v)) (C := RX22) (T := TX22) (N := 3) hx hb hts in_X22 hown hE.1 (hM.at hc_37) 0 rfl mm_cX22 1 (by decide) (va_Nw.use rfl (hE.2.1 _ q1217 rfl)) (fun _ h9 => h9) rfl dX1_join_114 ?_
  refine lv_aload_n hx hb dX1_join_117 rfl (lv_at hl 2 rfl) ?_
  refine lv_iload_n hx hb dX1_join_118 rfl (lv_at hl 4 rfl) ?_
  refine lv_aload hx hb dX1_join_119 (lv_at hl 0 rfl) ?_
  refine mm_callVD (As := [.int its, .ref q_2]) (rest := [.ref (vr v)]) ⟨hx, hb, hml, hown, hts⟩ hE hST hA (d_X22_some l Z (q := q2) (tl := some (vr w)) (lb := lb2) (L := q_2 :: L) (vr := uvr vr S.1 q_2) (n := S1.1) (er := .var S.1) (rb := q_2) hc_38 (hA2.uK hKK3) (hG2.mono hKK3 (fun _ h => List.mem_cons_of_mem _ h) hvr (by rw [hS11]; exact Nat.le_succ _)) (fun l hl h9 h8 => hs2 l hl h9 (by rw [hfg2 l hl, h8]; rfl)) hte3 hne3) (cwV 2 hts (lw_V q1242 q1243 q1244 q90 q1245) rfl rfl rfl (by decide +kernel) ⟨(by (try dsimp only); omega), (by (try dsimp only); omega)⟩) hM hS mm_cX22 hc_38 rfl hl.1 (Nat.le_of_ble_eq_true rfl) dX1_join_121 rfl ⟨(by (try dsimp only); omega), (by (try dsimp only); omega)⟩ (fun _ _ _ _ _ _ h9 => h9.elim) (fun v_39 M_40 n_42 k_43 H locs hp_41 hM hS => ?_)
  obtain ⟨rr2, rfl, hn3, hk3, hex4, htr2, hur2⟩ := hp_41
  have hc_44 := hex4.at hc_37
  have hc_45 := hex4.at hc_38
  have hC4 := hC3.lite hex4
  have hKK4 := hKK3.trans hex4.uK
  have hse2 : uap S1.2.1 (usome g2 its (.var S.1) 10) = uap S1.2.1 (usome f2 its (.var S.1) 10) := usome_cgu 10 _ _ (fun l hl => by rw [hfg2 l hl, Option.map_map]; congr 1; funext t9; exact (hle1 t9).symm) rfl
  have hcg2 : tClose S1 v (usome g2 its (.var S.1) 10) = tClose S1 v (usome f2 its (.var S.1) 10) := tClose_cg hse2
  have htq4 : tp Z M_40 (q_2 :: L) (uvr vr S.1 q_2) S1.1 (.var S.1) true q_2 := tp.mono hex4.uK (fun _ h => h) (fun _ _ => rfl) (Nat.le_refl _) _ _ _ hte3
  have hB4 := hB9.go hC hC4 hKK4 (fun _ h => List.mem_cons_of_mem _ h) hvr (by rw [hS11]; exact Nat.le_succ _) hle1 (uNewR hC4 htq4)
  have hH3 : uh (uap S1.2.1 (usome g2 its (.var S.1) 10)) ≤ Hh := by have h9 := hC4.heightB hB4 htr2; simp only [Bool.toNat_true] at h9; omega
  replace hJ : (tJoin S f1 f2 (some v) (some w) own its) = te_b (tClose S1 v (usome f2 its (.var S.1) 10)) fun S2 => te_b (if S2.2.2.1 w then tLike S2 (S2.2.1 w) else .inr S2) fun S3 => if S3.2.2.1 v then tLike S3 (S3.2.1 v) else .inr S3 := hJ
  rw [← hcg2] at hJ
  have hnxv : unext M_40 (vr v) = none := by
    have h9 := hx3 (vr v) (by rw [hex02.at hcv]; exact fun h8 => by cases h8) hvrn
    have h8 : unext M_23 (vr v) = none := unext_cr (bd := none) (hex02.at hcv)
    rw [h8] at h9
    obtain ⟨e7, h7⟩ := hKK3.has hcv
    rw [← h9]; unfold unext; rw [hex4.at h7, h7]
  have ht_46 : tp Z M_40 (q_2 :: L) (uvr vr S.1 q_2) S1.1 (.var v) true (uvr vr S.1 q_2 v) := by rw [hvr v hv]; exact (by rw [hS11]; exact tp.mono hKK4 (fun _ h => List.mem_cons_of_mem _ h) hvr (Nat.le_succ _) _ _ _ htv)
  have hr_47 := (hC4.rootR (by rw [hS11]; show v < S.1 + 1; omega) ht_46 (by rw [hvr v hv]; exact hnxv)).1
  have hcl_48 := d_X1_close l Z htr (S := S1) (v := v) (t := (usome g2 its (.var S.1) 10)) rfl hC4 (by rw [hS11]; show v < S.1 + 1; omega) hr_47 htr2 hur2
  rw [hvr v hv] at hcl_48
  refine mm_callSD (As := [.ref (vr v), .ref rr2]) (rest := []) ⟨hx, hb, hml, hown, hts⟩ hE hST hA hcl_48 (va_cwS 2 hts (lw_S q1249 q1250 q50 q1251) rfl rfl rfl (by decide +kernel) ⟨(by (try dsimp only); omega), (by (try dsimp only); omega)⟩) hM hS rfl hl.1 (Nat.le_of_ble_eq_true rfl) dX1_join_124 rfl ⟨(by (try dsimp only); omega), (by (try dsimp only); omega)⟩ (fun E ce q M9 H1 locs1 hp9 hM9 hS9 hce hcv9 hcl9 => by obtain ⟨er9, he9, hx9⟩ := hp9; exact mm_outxD htab hlk hM9 hS9 hce hcv9 hcl9 ⟨er9, by rw [hJ, he9]; rfl, hx9.afterK hKK4⟩ (by (try dsimp only); omega) (by (try dsimp only); omega)) (fun v_49 M_50 n_52 k_53 H locs hp_51 hM hS => ?_)
  obtain ⟨rfl, hn4, hk4, S2, hS2, hK5, hC5, hS21, hP5, hx5⟩ := hp_51
  have hKK5 := hKK4.trans hK5
  rw [hS2] at hJ
  have hc_54 := hK5.atC hc_44 (by decide)
  have hc_55 := hK5.atC hc_45 (by decide)
  have hle2 := tClose_le hC3.1.1 hS2
  have hle := ts_le.trans (S1 := S) (S2 := S1) (S3 := S2) hle1 hle2
  replace hJ : (tJoin S f1 f2 (some v) (some w) own its) = te_b (if S2.2.2.1 w then tLike S2 (S2.2.1 w) else .inr S2) fun S3 => if S3.2.2.1 v then tLike S3 (S3.2.1 v) else .inr S3 := hJ
  have hnx : ∀ z, M z ≠ none → (∀ u, (some v : Option Nat) = some u ∨ (some w : Option Nat) = some u → z ≠ vr u) → unext M_50 z = unext M z := by
    intro z hz1 hz2
    obtain ⟨e9, h9⟩ : ∃ e9, M z = some e9 := by cases h8 : M z with | none => exact absurd h8 hz1 | some e9 => exact ⟨e9, rfl⟩
    obtain ⟨e7, h7⟩ := hKK3.has h9
    rw [hx5 z (by rw [hex4.at h7]; exact fun h8 => by cases h8) (hz2 v (Or.inl rfl))]
    have h6 : unext M_40 z = unext M_33 z := by unfold unext; rw [hex4.at h7, h7]
    rw [h6, hx3 z (by rw [hex02.at h9]; exact fun h8 => by cases h8) (hz2 w (Or.inr rfl))]
    unfold unext; rw [hex02.at h9, h9]
  have hvr2 : ∀ u, u < S.1 → uvr vr S.1 q_2 u = vr u := hvr
  have htzv : tp Z M_50 (q_2 :: L) (uvr vr S.1 q_2) S2.1 (.var v) true (uvr vr S.1 q_2 v) := by rw [hvr v hv, hS21, hS11]; exact tp.mono hKK5 (fun _ h => List.mem_cons_of_mem _ h) hvr (Nat.le_succ _) _ _ _ htv
  have htzw : tp Z M_50 (q_2 :: L) (uvr vr S.1 q_2) S2.1 (.var w) true (uvr vr S.1 q_2 w) := by rw [hvr w hw, hS21, hS11]; exact tp.mono hKK5 (fun _ h => List.mem_cons_of_mem _ h) hvr (Nat.le_succ _) _ _ _ htw
  have hP9 : uPhi M_50 (q_2 :: L) + 1 = uPhi M L := by have h9 := hex2.uL.phi hC1.2.2.1; have h8 := hex4.uL.phi hC3.2.2.1; omega
  have hS9 : S2.1 = S.1 + 1 := by rw [hS21, hS11]; rfl
  have htq5 : tp Z M_50 (q_2 :: L) (uvr vr S.1 q_2) S2.1 (.var S.1) true q_2 := by rw [hS21]; exact tp.mono hK5 (fun _ h => h) (fun _ _ => rfl) (Nat.le_refl _) _ _ _ htq4
  have hB5 := hB9.go hC hC5 hKK5 (fun _ h => List.mem_cons_of_mem _ h) hvr (by rw [hS21, hS11]; exact Nat.le_succ _) hle (uNewR hC5 htq5)
  have hH5 : uh (S2.2.1 w) ≤ Hh := by have h9 : uh (S2.2.1 w) ≤ _ := hC5.heightB hB5 htzw; simp only [Bool.toNat_true] at h9; omega
  have hH6 : uh (S2.2.1 v) ≤ Hh := by have h9 : uh (S2.2.1 v) ≤ _ := hC5.heightB hB5 htzv; simp only [Bool.toNat_true] at h9; omega
  obtain ⟨bdhcu_56, hcu_56⟩ := hC5.cellR htzw
  rw [hvr w hw] at hcu_56
  refine lv_aload_n hx hb dX1_join_127 rfl (lv_at hl 2 rfl) ?_
  refine va_getN (D := Z.1) (ci := 17) (v := .ref (vr w)) (C := RX22) (T := TX22) (N := 3) hx hb hts in_X22 hown hE.1 (hM.at hc_55) 0 rfl mm_cX22 1 (by decide) (va_Nw.use rfl (hE.2.1 _ q1217 rfl)) (fun _ h9 => h9) rfl dX1_join_128 ?_
  refine lv_ifnull hx hb dX1_join_131 ?_
  refine lv_aload_n hx hb dX1_join_134 rfl (lv_at hl 2 rfl) ?_
  refine va_getN (D := Z.1) (ci := 17) (v := .ref (vr w)) (C := RX22) (T := TX22) (N := 3) hx hb hts in_X22 hown hE.1 (hM.at hc_55) 0 rfl mm_cX22 1 (by decide) (va_Nw.use rfl (hE.2.1 _ q1217 rfl)) (fun _ h9 => h9) rfl dX1_join_135 ?_
  refine va_getN (D := Z.1) (ci := 12) (v := .int (mm_b (S2.2.2.1 w))) (C := RX15) (T := TX15) (N := 4) hx hb hts in_X15 hown hE.1 (hM.at hcu_56) 0 rfl mm_cX15 2 (by decide) (va_Nw.use rfl (hE.2.1 _ q930 rfl)) (fun _ h9 => h9) rfl dX1_join_138 ?_
  refine lv_if_eq (tgt := 158) hx hb dX1_join_141 (by decide) (fun c_57 => ?_) (fun c_57 => ?_)
  · skip
    have hlk_58 : S2.2.2.1 w = false := (mm_b_0 _).1 c_57
    rw [if_neg (by rw [hlk_58]; decide)] at hJ
    replace hJ : (tJoin S f1 f2 (some v) (some w) own its) = if S2.2.2.1 v then tLike S2 (S2.2.1 v) else .inr S2 := hJ
    obtain ⟨bdhcu_59, hcu_59⟩ := hC5.cellR htzv
    rw [hvr v hv] at hcu_59
    refine lv_aload_n hx hb dX1_join_158 rfl (lv_at hl 1 rfl) ?_
    refine va_getN (D := Z.1) (ci := 17) (v := .ref (vr v)) (C := RX22) (T := TX22) (N := 3) hx hb hts in_X22 hown hE.1 (hM.at hc_54) 0 rfl mm_cX22 1 (by decide) (va_Nw.use rfl (hE.2.1 _ q1217 rfl)) (fun _ h9 => h9) rfl dX1_join_159 ?_
    refine lv_ifnull hx hb dX1_join_162 ?_
    refine lv_aload_n hx hb dX1_join_165 rfl (lv_at hl 1 rfl) ?_
    refine va_getN (D := Z.1) (ci := 17) (v := .ref (vr v)) (C := RX22) (T := TX22) (N := 3) hx hb hts in_X22 hown hE.1 (hM.at hc_54) 0 rfl mm_cX22 1 (by decide) (va_Nw.use rfl (hE.2.1 _ q1217 rfl)) (fun _ h9 => h9) rfl dX1_join_166 ?_
    refine va_getN (D := Z.1) (ci := 12) (v := .int (mm_b (S2.2.2.1 v))) (C := RX15) (T := TX15) (N := 4) hx hb hts in_X15 hown hE.1 (hM.at hcu_59) 0 rfl mm_cX15 2 (by decide) (va_Nw.use rfl (hE.2.1 _ q930 rfl)) (fun _ h9 => h9) rfl dX1_join_169 ?_
    refine lv_if_eq (tgt := 189) hx hb dX1_join_172 (by decide) (fun c_60 => ?_) (fun c_60 => ?_)
    · skip
      have hlk_61 : S2.2.2.1 v = false := (mm_b_0 _).1 c_60
      rw [if_neg (by rw [hlk_61]; decide)] at hJ
      have hnz : ∀ z, M z ≠ none → (∀ u, (some v : Option Nat) = some u ∨ (some w : Option Nat) = some u → z ≠ vr u) → unext M_50 z = unext M z := by
        exact hnx
      exact mm_retvD hx hb hr hlk hM hS ⟨rfl, by (try dsimp only); omega, by (try dsimp only); omega, S2, q_2 :: L, uvr vr S.1 q_2, hJ, hKK5, hC5, fun _ h => List.mem_cons_of_mem _ h, hvr, by show S.1 ≤ S2.1; omega, by omega, Nat.le_refl _, hle, uNewC htq5, hnz⟩ dX1_join_189 (by (try dsimp only); omega) (by (try dsimp only); omega)
    · skip
      have hlk_61 : S2.2.2.1 v = true := by cases h8 : S2.2.2.1 v with | true => rfl | false => exact absurd ((mm_b_0 _).2 h8) c_60
      rw [if_pos hlk_61] at hJ
      refine lv_aload_n hx hb dX1_join_175 rfl (lv_at hl 1 rfl) ?_
      refine va_getN (D := Z.1) (ci := 17) (v := .ref (vr v)) (C := RX22) (T := TX22) (N := 3) hx hb hts in_X22 hown hE.1 (hM.at hc_54) 0 rfl mm_cX22 1 (by decide) (va_Nw.use rfl (hE.2.1 _ q1217 rfl)) (fun _ h9 => h9) rfl dX1_join_176 ?_
      refine mm_new (D := Z.1) (ci := 50) (fs := []) (C := "RowenTongue$Likening") (T := mm_TE0) (N := 0) hx hb hts mm_inE0 (fun _ => .int) (fun k h => absurd h (Nat.not_lt_zero k)) hown (hts _ q1180) (hts _ q1181) (hts _ q89) hE.1 hM hS hA mm_cE0 (fun j h => absurd h (Nat.not_lt_zero j)) (by (try dsimp only); omega) (by (try dsimp only); omega) dX1_join_179 (fun q_62 H nq_61 hM hS => ?_)
      have hM : mm_P Z.1 mm_cl A (mm_U M_50 q_62 (.inr (50, []))) H := hM
      have ne_63 : one ≠ q_62 := (mm_neN hc_54 nq_61)
      have ne_64 : other ≠ q_62 := (mm_neN hc_55 nq_61)
      have ne_65 : (vr v) ≠ q_62 := (mm_neN hcu_59 nq_61)
      have hc_66 : (mm_U M_50 q_62 (.inr (50, []))) q_62 = some (.inr (50, [])) := mm_U_eq
      have hc_67 : (mm_U M_50 q_62 (.inr (50, []))) one = some (.inr (17, [.ref q1, .ref (vr v), .int lb1])) := (mm_U_ne ne_63).trans hc_54
      have hc_68 : (mm_U M_50 q_62 (.inr (50, []))) other = some (.inr (17, [.ref q2, .ref (vr w), .int lb2])) := (mm_U_ne ne_64).trans hc_55
      have hc_69 : (mm_U M_50 q_62 (.inr (50, []))) (vr v) = some (.inr (12, [va_rf bdhcu_59, .int (S2.2.2.2.2 v), .int (mm_b (S2.2.2.1 v)), .int (S2.2.2.2.1 v)])) := (mm_U_ne ne_65).trans hcu_59
      obtain ⟨M_70, eM_70⟩ : ∃ z, z = mm_U M_50 q_62 (.inr (50, [])) := ⟨_, rfl⟩
      rw [← eM_70] at hM hc_67 hc_68 hc_69 hc_66
      refine lv_dup hx hb dX1_join_182 rfl ?_
      refine mm_callIN (As := []) (rest := [.ref q_62, .ref (vr v)]) ⟨hx, hb, hml, hown, hts⟩ hE hST hA (c_X21_init l Z (M := M_70) (h0 := q_62) hc_66) ⟨va_cnB 0 hts (lw_meth q1184) rfl rfl rfl (hE.2.1 _ q1182 rfl) (hts _ q89) (by decide +kernel) ⟨(by (try dsimp only); omega), (by (try dsimp only); omega)⟩, rfl, hts _ q1183⟩ hM hS rfl hl.1 (Nat.le_of_ble_eq_true rfl) dX1_join_183 rfl ⟨(by (try dsimp only); omega), (by (try dsimp only); omega)⟩ (fun _ _ _ _ _ _ h9 => h9.elim) (fun v_71 M_72 H locs hp_73 hM hS => ?_)
      obtain ⟨rfl, eM_72⟩ := hp_73
      rw [eM_72] at hM
      have hexL_74 : mm_Ext M_50 M_70 := by subst eM_70; (try rw [mm_U_U]); exact mm_Ext.U nq_61
      have hC_75 := hC5.lite hexL_74
      have con_81 := (c_through_L l Z htr (q_2 :: L) (uvr vr S.1 q_2) q_62 (SizeOf.sizeOf (S2.2.1 v) + 1)).2 (S2.2.1 v) (.var v) (uvr vr S.1 q_2 v) _ S2 (Nat.lt_succ_self _) rfl hc_66 hC_75 (htzv.light hexL_74.uL)
      rw [hvr v hv] at con_81
      have hh9 : uh (S2.2.1 v) ≤ Hh := hH6
      refine mm_callSD (As := [.ref (vr v), .ref q_62]) (rest := []) ⟨hx, hb, hml, hown, hts⟩ hE hST hA con_81 (va_cwS 2 hts (lw_S q1252 q1147 q87 q1148) rfl rfl rfl (by decide +kernel) ⟨(by (try dsimp only); omega), (by (try dsimp only); omega)⟩) hM hS rfl hl.1 (Nat.le_of_ble_eq_true rfl) dX1_join_186 rfl ⟨(by (try dsimp only); omega), (by (try dsimp only); omega)⟩ (fun E ce q M9 H1 locs1 hp9 hM9 hS9 hce hcv9 hcl9 => by exact mm_outxD htab hlk hM9 hS9 hce hcv9 hcl9 ⟨5, by rw [hJ]; unfold tLike; rw [if_pos hp9.1], (hp9.2.after hexL_74.uL).afterK hKK5⟩ (by (try dsimp only); omega) (by (try dsimp only); omega)) (fun v_82 M_83 n_85 k_86 H locs hp_84 hM hS => ?_)
      obtain ⟨rfl, rfl, rfl, ho_76, hL_77, hC_78⟩ := hp_84
      have hc_87 := hL_77.atC hc_67 (by decide)
      have hc_88 := hL_77.atC hc_68 (by decide)
      have hLL_79 := hexL_74.uL.trans hL_77
      have hKK_80 := hKK5.trans hLL_79.K
      unfold tLike at hJ
      rw [if_neg (by rw [ho_76]; decide)] at hJ
      have hnz : ∀ z, M z ≠ none → (∀ u, (some v : Option Nat) = some u ∨ (some w : Option Nat) = some u → z ≠ vr u) → unext M_83 z = unext M z := by
        intro z hz1 hz2
        rw [← hnx z hz1 hz2]
        obtain ⟨e9, h9⟩ : ∃ e9, M z = some e9 := by cases h8 : M z with | none => exact absurd h8 hz1 | some e9 => exact ⟨e9, rfl⟩
        obtain ⟨e7, h7⟩ := hKK5.has h9
        exact hLL_79.next h7
      exact mm_retvD hx hb hr hlk hM hS ⟨rfl, by (try dsimp only); omega, by (try dsimp only); omega, (ts_like S2 (S2.2.1 v)), q_2 :: L, uvr vr S.1 q_2, hJ, hKK_80, hC_78, fun _ h => List.mem_cons_of_mem _ h, hvr, by show S.1 ≤ S2.1; omega, by have h0_ := hLL_79.phi hC5.2.2.1; omega, Nat.le_refl _, hle, uNewC (htq5.light hLL_79), hnz⟩ dX1_join_189 (by (try dsimp only); omega) (by (try dsimp only); omega)
  · skip
    have hlk_58 : S2.2.2.1 w = true := by cases h8 : S2.2.2.1 w with | true => rfl | false => exact absurd ((mm_b_0 _).2 h8) c_57
    rw [if_pos hlk_58] at hJ
    refine lv_aload_n hx hb dX1_join_144 rfl (lv_at hl 2 rfl) ?_
    refine va_getN (D := Z.1) (ci := 17) (v := .ref (vr w)) (C := RX22) (T := TX22) (N := 3) hx hb hts in_X22 hown hE.1 (hM.at hc_55) 0 rfl mm_cX22 1 (by decide) (va_Nw.use rfl (hE.2.1 _ q1217 rfl)) (fun _ h9 => h9) rfl dX1_join_145 ?_
    refine mm_new (D := Z.1) (ci := 50) (fs := []) (C := "RowenTongue$Likening") (T := mm_TE0) (N := 0) hx hb hts mm_inE0 (fun _ => .int) (fun k h => absurd h (Nat.not_lt_zero k)) hown (hts _ q1180) (hts _ q1181) (hts _ q89) hE.1 hM hS hA mm_cE0 (fun j h => absurd h (Nat.not_lt_zero j)) (by (try dsimp only); omega) (by (try dsimp only); omega) dX1_join_148 (fun q_59 H nq_58 hM hS => ?_)
    have hM : mm_P Z.1 mm_cl A (mm_U M_50 q_59 (.inr (50, []))) H := hM
    have ne_60 : one ≠ q_59 := (mm_neN hc_54 nq_58)
    have ne_61 : other ≠ q_59 := (mm_neN hc_55 nq_58)
    have ne_62 : (vr w) ≠ q_59 := (mm_neN hcu_56 nq_58)
    have hc_63 : (mm_U M_50 q_59 (.inr (50, []))) q_59 = some (.inr (50, [])) := mm_U_eq
    have hc_64 : (mm_U M_50 q_59 (.inr (50, []))) one = some (.inr (17, [.ref q1, .ref (vr v), .int lb1])) := (mm_U_ne ne_60).trans hc_54
    have hc_65 : (mm_U M_50 q_59 (.inr (50, []))) other = some (.inr (17, [.ref q2, .ref (vr w), .int lb2])) := (mm_U_ne ne_61).trans hc_55
    have hc_66 : (mm_U M_50 q_59 (.inr (50, []))) (vr w) = some (.inr (12, [va_rf bdhcu_56, .int (S2.2.2.2.2 w), .int (mm_b (S2.2.2.1 w)), .int (S2.2.2.2.1 w)])) := (mm_U_ne ne_62).trans hcu_56
    obtain ⟨M_67, eM_67⟩ : ∃ z, z = mm_U M_50 q_59 (.inr (50, [])) := ⟨_, rfl⟩
    rw [← eM_67] at hM hc_64 hc_65 hc_66 hc_63
    refine lv_dup hx hb dX1_join_151 rfl ?_
    refine mm_callIN (As := []) (rest := [.ref q_59, .ref (vr w)]) ⟨hx, hb, hml, hown, hts⟩ hE hST hA (c_X21_init l Z (M := M_67) (h0 := q_59) hc_63) ⟨va_cnB 0 hts (lw_meth q1184) rfl rfl rfl (hE.2.1 _ q1182 rfl) (hts _ q89) (by decide +kernel) ⟨(by (try dsimp only); omega), (by (try dsimp only); omega)⟩, rfl, hts _ q1183⟩ hM hS rfl hl.1 (Nat.le_of_ble_eq_true rfl) dX1_join_152 rfl ⟨(by (try dsimp only); omega), (by (try dsimp only); omega)⟩ (fun _ _ _ _ _ _ h9 => h9.elim) (fun v_68 M_69 H locs hp_70 hM hS => ?_)
    obtain ⟨rfl, eM_69⟩ := hp_70
    rw [eM_69] at hM
    have hexL_71 : mm_Ext M_50 M_67 := by subst eM_67; (try rw [mm_U_U]); exact mm_Ext.U nq_58
    have hC_72 := hC5.lite hexL_71
    have con_78 := (c_through_L l Z htr (q_2 :: L) (uvr vr S.1 q_2) q_59 (SizeOf.sizeOf (S2.2.1 w) + 1)).2 (S2.2.1 w) (.var w) (uvr vr S.1 q_2 w) _ S2 (Nat.lt_succ_self _) rfl hc_63 hC_72 (htzw.light hexL_71.uL)
    rw [hvr w hw] at con_78
    have hh9 : uh (S2.2.1 w) ≤ Hh := hH5
    refine mm_callSD (As := [.ref (vr w), .ref q_59]) (rest := []) ⟨hx, hb, hml, hown, hts⟩ hE hST hA con_78 (va_cwS 2 hts (lw_S q1252 q1147 q87 q1148) rfl rfl rfl (by decide +kernel) ⟨(by (try dsimp only); omega), (by (try dsimp only); omega)⟩) hM hS rfl hl.1 (Nat.le_of_ble_eq_true rfl) dX1_join_155 rfl ⟨(by (try dsimp only); omega), (by (try dsimp only); omega)⟩ (fun E ce q M9 H1 locs1 hp9 hM9 hS9 hce hcv9 hcl9 => by exact mm_outxD htab hlk hM9 hS9 hce hcv9 hcl9 ⟨5, by rw [hJ]; unfold tLike; rw [if_pos hp9.1]; rfl, (hp9.2.after hexL_71.uL).afterK hKK5⟩ (by (try dsimp only); omega) (by (try dsimp only); omega)) (fun v_79 M_80 n_82 k_83 H locs hp_81 hM hS => ?_)
    obtain ⟨rfl, rfl, rfl, ho_73, hL_74, hC_75⟩ := hp_81
    have hc_84 := hL_74.atC hc_64 (by decide)
    have hc_85 := hL_74.atC hc_65 (by decide)
    have hLL_76 := hexL_71.uL.trans hL_74
    have hKK_77 := hKK5.trans hLL_76.K
    unfold tLike at hJ
    rw [if_neg (by rw [ho_73]; decide)] at hJ
    replace hJ : (tJoin S f1 f2 (some v) (some w) own its) = if (ts_like S2 (S2.2.1 w)).2.2.1 v then tLike (ts_like S2 (S2.2.1 w)) ((ts_like S2 (S2.2.1 w)).2.1 v) else .inr (ts_like S2 (S2.2.1 w)) := hJ
    obtain ⟨bdhcu_86, hcu_86⟩ := hC_75.cellR (htzv.light hLL_76)
    rw [hvr v hv] at hcu_86
    refine lv_aload_n hx hb dX1_join_158 rfl (lv_at hl 1 rfl) ?_
    refine va_getN (D := Z.1) (ci := 17) (v := .ref (vr v)) (C := RX22) (T := TX22) (N := 3) hx hb hts in_X22 hown hE.1 (hM.at hc_84) 0 rfl mm_cX22 1 (by decide) (va_Nw.use rfl (hE.2.1 _ q1217 rfl)) (fun _ h9 => h9) rfl dX1_join_159 ?_
    refine lv_ifnull hx hb dX1_join_162 ?_
    refine lv_aload_n hx hb dX1_join_165 rfl (lv_at hl 1 rfl) ?_
    refine va_getN (D := Z.1) (ci := 17) (v := .ref (vr v)) (C := RX22) (T := TX22) (N := 3) hx hb hts in_X22 hown hE.1 (hM.at hc_84) 0 rfl mm_cX22 1 (by decide) (va_Nw.use rfl (hE.2.1 _ q1217 rfl)) (fun _ h9 => h9) rfl dX1_join_166 ?_
    refine va_getN (D := Z.1) (ci := 12) (v := .int (mm_b ((ts_like S2 (S2.2.1 w)).2.2.1 v))) (C := RX15) (T := TX15) (N := 4) hx hb hts in_X15 hown hE.1 (hM.at hcu_86) 0 rfl mm_cX15 2 (by decide) (va_Nw.use rfl (hE.2.1 _ q930 rfl)) (fun _ h9 => h9) rfl dX1_join_169 ?_
    refine lv_if_eq (tgt := 189) hx hb dX1_join_172 (by decide) (fun c_87 => ?_) (fun c_87 => ?_)
    · skip
      have hlk_88 : (ts_like S2 (S2.2.1 w)).2.2.1 v = false := (mm_b_0 _).1 c_87
      rw [if_neg (by rw [hlk_88]; decide)] at hJ
      have hnz : ∀ z, M z ≠ none → (∀ u, (some v : Option Nat) = some u ∨ (some w : Option Nat) = some u → z ≠ vr u) → unext M_80 z = unext M z := by
        intro z hz1 hz2
        rw [← hnx z hz1 hz2]
        obtain ⟨e9, h9⟩ : ∃ e9, M z = some e9 := by cases h8 : M z with | none => exact absurd h8 hz1 | some e9 => exact ⟨e9, rfl⟩
        obtain ⟨e7, h7⟩ := hKK5.has h9
        exact hLL_76.next h7
      exact mm_retvD hx hb hr hlk hM hS ⟨rfl, by (try dsimp only); omega, by (try dsimp only); omega, (ts_like S2 (S2.2.1 w)), q_2 :: L, uvr vr S.1 q_2, hJ, hKK_77, hC_75, fun _ h => List.mem_cons_of_mem _ h, hvr, by show S.1 ≤ S2.1; omega, by have h0_ := hLL_76.phi hC5.2.2.1; omega, Nat.le_refl _, hle, uNewC (htq5.light hLL_76), hnz⟩ dX1_join_189 (by (try dsimp only); omega) (by (try dsimp only); omega)
    · skip
      have hlk_88 : (ts_like S2 (S2.2.1 w)).2.2.1 v = true := by cases h8 : (ts_like S2 (S2.2.1 w)).2.2.1 v with | true => rfl | false => exact absurd ((mm_b_0 _).2 h8) c_87
      rw [if_pos hlk_88] at hJ
      refine lv_aload_n hx hb dX1_join_175 rfl (lv_at hl 1 rfl) ?_
      refine va_getN (D := Z.1) (ci := 17) (v := .ref (vr v)) (C := RX22) (T := TX22) (N := 3) hx hb hts in_X22 hown hE.1 (hM.at hc_84) 0 rfl mm_cX22 1 (by decide) (va_Nw.use rfl (hE.2.1 _ q1217 rfl)) (fun _ h9 => h9) rfl dX1_join_176 ?_
      refine mm_new (D := Z.1) (ci := 50) (fs := []) (C := "RowenTongue$Likening") (T := mm_TE0) (N := 0) hx hb hts mm_inE0 (fun _ => .int) (fun k h => absurd h (Nat.not_lt_zero k)) hown (hts _ q1180) (hts _ q1181) (hts _ q89) hE.1 hM hS hA mm_cE0 (fun j h => absurd h (Nat.not_lt_zero j)) (by (try dsimp only); omega) (by (try dsimp only); omega) dX1_join_179 (fun q_89 H nq_88 hM hS => ?_)
      have hM : mm_P Z.1 mm_cl A (mm_U M_80 q_89 (.inr (50, []))) H := hM
      have ne_90 : one ≠ q_89 := (mm_neN hc_84 nq_88)
      have ne_91 : other ≠ q_89 := (mm_neN hc_85 nq_88)
      have ne_92 : (vr v) ≠ q_89 := (mm_neN hcu_86 nq_88)
      have hc_93 : (mm_U M_80 q_89 (.inr (50, []))) q_89 = some (.inr (50, [])) := mm_U_eq
      have hc_94 : (mm_U M_80 q_89 (.inr (50, []))) one = some (.inr (17, [.ref q1, .ref (vr v), .int lb1])) := (mm_U_ne ne_90).trans hc_84
      have hc_95 : (mm_U M_80 q_89 (.inr (50, []))) other = some (.inr (17, [.ref q2, .ref (vr w), .int lb2])) := (mm_U_ne ne_91).trans hc_85
      have hc_96 : (mm_U M_80 q_89 (.inr (50, []))) (vr v) = some (.inr (12, [va_rf bdhcu_86, .int ((ts_like S2 (S2.2.1 w)).2.2.2.2 v), .int (mm_b ((ts_like S2 (S2.2.1 w)).2.2.1 v)), .int ((ts_like S2 (S2.2.1 w)).2.2.2.1 v)])) := (mm_U_ne ne_92).trans hcu_86
      obtain ⟨M_97, eM_97⟩ : ∃ z, z = mm_U M_80 q_89 (.inr (50, [])) := ⟨_, rfl⟩
      rw [← eM_97] at hM hc_94 hc_95 hc_96 hc_93
      refine lv_dup hx hb dX1_join_182 rfl ?_
      refine mm_callIN (As := []) (rest := [.ref q_89, .ref (vr v)]) ⟨hx, hb, hml, hown, hts⟩ hE hST hA (c_X21_init l Z (M := M_97) (h0 := q_89) hc_93) ⟨va_cnB 0 hts (lw_meth q1184) rfl rfl rfl (hE.2.1 _ q1182 rfl) (hts _ q89) (by decide +kernel) ⟨(by (try dsimp only); omega), (by (try dsimp only); omega)⟩, rfl, hts _ q1183⟩ hM hS rfl hl.1 (Nat.le_of_ble_eq_true rfl) dX1_join_183 rfl ⟨(by (try dsimp only); omega), (by (try dsimp only); omega)⟩ (fun _ _ _ _ _ _ h9 => h9.elim) (fun v_98 M_99 H locs hp_100 hM hS => ?_)
      obtain ⟨rfl, eM_99⟩ := hp_100
      rw [eM_99] at hM
      have hexL_101 : mm_Ext M_80 M_97 := by subst eM_97; (try rw [mm_U_U]); exact mm_Ext.U nq_88
      have hC_102 := hC_75.lite hexL_101
      have con_108 := (c_through_L l Z htr (q_2 :: L) (uvr vr S.1 q_2) q_89 (SizeOf.sizeOf ((ts_like S2 (S2.2.1 w)).2.1 v) + 1)).2 ((ts_like S2 (S2.2.1 w)).2.1 v) (.var v) (uvr vr S.1 q_2 v) _ (ts_like S2 (S2.2.1 w)) (Nat.lt_succ_self _) rfl hc_93 hC_102 ((htzv.light hLL_76).light hexL_101.uL)
      rw [hvr v hv] at con_108
      have hh9 : uh ((ts_like S2 (S2.2.1 w)).2.1 v) ≤ Hh := hH6
      refine mm_callSD (As := [.ref (vr v), .ref q_89]) (rest := []) ⟨hx, hb, hml, hown, hts⟩ hE hST hA con_108 (va_cwS 2 hts (lw_S q1252 q1147 q87 q1148) rfl rfl rfl (by decide +kernel) ⟨(by (try dsimp only); omega), (by (try dsimp only); omega)⟩) hM hS rfl hl.1 (Nat.le_of_ble_eq_true rfl) dX1_join_186 rfl ⟨(by (try dsimp only); omega), (by (try dsimp only); omega)⟩ (fun E ce q M9 H1 locs1 hp9 hM9 hS9 hce hcv9 hcl9 => by exact mm_outxD htab hlk hM9 hS9 hce hcv9 hcl9 ⟨5, by rw [hJ]; unfold tLike; rw [if_pos hp9.1], (hp9.2.after hexL_101.uL).afterK hKK_77⟩ (by (try dsimp only); omega) (by (try dsimp only); omega)) (fun v_109 M_110 n_112 k_113 H locs hp_111 hM hS => ?_)
      obtain ⟨rfl, rfl, rfl, ho_103, hL_104, hC_105⟩ := hp_111
      have hc_114 := hL_104.atC hc_94 (by decide)
      have hc_115 := hL_104.atC hc_95 (by decide)
      have hLL_106 := hexL_101.uL.trans hL_104
      have hKK_107 := hKK_77.trans hLL_106.K
      unfold tLike at hJ
      rw [if_neg (by rw [ho_103]; decide)] at hJ
      have hnz : ∀ z, M z ≠ none → (∀ u, (some v : Option Nat) = some u ∨ (some w : Option Nat) = some u → z ≠ vr u) → unext M_110 z = unext M z := by
        intro z hz1 hz2
        rw [← hnx z hz1 hz2]
        obtain ⟨e9, h9⟩ : ∃ e9, M z = some e9 := by cases h8 : M z with | none => exact absurd h8 hz1 | some e9 => exact ⟨e9, rfl⟩
        obtain ⟨e7, h7⟩ := hKK5.has h9
        exact (hLL_76.trans hLL_106).next h7
      exact mm_retvD hx hb hr hlk hM hS ⟨rfl, by (try dsimp only); omega, by (try dsimp only); omega, (ts_like (ts_like S2 (S2.2.1 w)) ((ts_like S2 (S2.2.1 w)).2.1 v)), q_2 :: L, uvr vr S.1 q_2, hJ, hKK_107, hC_105, fun _ h => List.mem_cons_of_mem _ h, hvr, by show S.1 ≤ S2.1; omega, by have h0_ := hLL_76.phi hC5.2.2.1; have h1_ := hLL_106.phi hC_75.2.2.1; omega, Nat.le_refl _, hle, uNewC ((htq5.light hLL_76).light hLL_106), hnz⟩ dX1_join_189 (by (try dsimp only); omega) (by (try dsimp only); omega)
