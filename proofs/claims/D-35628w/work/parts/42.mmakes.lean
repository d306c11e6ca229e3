/-! ===== the model's leaf, named, made, match ===== -/
set_option maxRecDepth 100000
theorem pl_its {kd i : Int32} {ps : List Nat} {w : Nat} (h : pl_can kd i = true) (h6 : kd ≠ 6) (h15 : kd ≠ 15) : i = pm_wh (kd, pl_wh kd i, 0, ps, w) := by
  simp only [pl_can, Bool.or_eq_true, Bool.and_eq_true, beq_iff_eq] at h
  rcases h with ((h | h) | h) | h
  · simp [pm_wh, pl_wh, h.1]
  · simp [pm_wh, pl_wh, h.1]
  · exact absurd h h6
  · exact absurd h h15
theorem pn_its {kd i : Int32} {ps : List Nat} {w : Nat} (h : kd ≠ 17) : i = pm_wh (kd, i, 0, ps, w) := by simp [pm_wh, h]
theorem pn_two_eq (k : Int32) : decide (k = 4 ∨ k = 5 ∨ k = 7) = pn_two k := by
  rw [Bool.eq_iff_iff]; simp [pn_two, or_assoc]
theorem c_X2_isOfTwo_b (l : Launch) (Z : mm_G) {M : mm_M} {k : Int32} : mm_C l Z yX2_isOfTwo (ws_ yX2_isOfTwo cX2_isOfTwo 1 (some .boolean)) { frames := 0, cells := 0, slots := 0, locals := 0 } [.int k] M (fun v M' => v = some (.int (mm_b (pn_two k))) ∧ M' = M) mm_nx := by
  rw [← pn_two_eq]; exact c_X2_isOfTwo l Z
theorem md_A.U {Z : mm_G} {M : mm_M} {a kd wh f1 f2 f3 wg pl : Nat} {T : List pt_R} {fs gs : List Value} (h : md_A Z M kd wh f1 f2 f3 wg pl T) (ha : M a = some (.inr (1, fs))) : md_A Z (mm_U M a (.inr (1, gs))) kd wh f1 f2 f3 wg pl T := by
  obtain ⟨nd, hl, ⟨gp, hp⟩, g0, g1, g2, g3, g4, g5, h0, h1, h2, h3, h4, h5, hg⟩ := h
  have k : ∀ (b : Nat) (x : ClassId × vp_A), M b = some (.inl x) → mm_U M a (.inr (1, gs)) b = some (.inl x) := fun b x hb => (mm_U_ne (mm_neA hb ha)).trans hb
  exact ⟨nd, hl, ⟨gp, k _ _ hp⟩, g0, g1, g2, g3, g4, g5, k _ _ h0, k _ _ h1, k _ _ h2, k _ _ h3, k _ _ h4, k _ _ h5, hg⟩
theorem md_A.par {Z : mm_G} {M : mm_M} {kd wh f1 f2 f3 wg pl : Nat} {T : List pt_R} (h : md_A Z M kd wh f1 f2 f3 wg pl T) : ∃ g5, M wg = some (ia_E Z 120 g5) ∧ T.length ≤ 120 ∧ (∀ (k : Nat) (r : pt_R), T[k]? = some r → g5 k = nI r.2.2.2.2) ∧ ∀ (k : Nat) (r : pt_R), T[k]? = some r → r.2.2.2.2 ≤ 30 := by
  obtain ⟨-, hl, -, _, _, _, _, _, g5, -, -, -, -, -, h5, hg⟩ := h
  exact ⟨g5, h5, hl, fun k r hk => (hg k r hk).2.2.2.2.2.1, fun k r hk => (hg k r hk).2.2.2.2.2.2⟩
theorem pt_w_b {T : List pt_R} (hT : ∀ (k : Nat) (r : pt_R), T[k]? = some r → r.2.2.2.2 ≤ 30) {ps : List Nat} (hlen : ps.length ≤ 3) : pt_w T ps ≤ 100 := by
  have h : ∀ j : Nat, ((T[j]?).map fun r : pt_R => r.2.2.2.2).getD 0 ≤ 30 := by
    intro j
    cases hj : T[j]? with
    | none => simp
    | some r => exact hT j r hj
  match ps, hlen with
  | [], _ => simp [pt_w]
  | [a], _ => have := h a; simp only [pt_w, List.map, List.sum_cons, List.sum_nil]; omega
  | [a, b], _ => have := h a; have := h b; simp only [pt_w, List.map, List.sum_cons, List.sum_nil]; omega
  | [a, b, c], _ => have := h a; have := h b; have := h c; simp only [pt_w, List.map, List.sum_cons, List.sum_nil]; omega

set_option maxHeartbeats 4000000 in
set_option maxRecDepth 100000 in
theorem c_X2_leaf (l : Launch) (Z : mm_G) {M : mm_M} {a kd' wh' f1 f2 f3 wg pl : Nat} {ea sp th ak wr tk : Int32} {rt : Option Nat} {fa : Bool} {st : Int64} {T : List pt_R} (hm9 : M a = some (md_E (nI T.length) kd' wh' f1 f2 f3 wg ea sp rt th ak wr pl tk fa st)) (hA9 : md_A Z M kd' wh' f1 f2 f3 wg pl T) {kd i : Int32} : mm_C l Z yX2_leaf (ws_ yX2_leaf cX2_leaf 4 (some .int)) { frames := 4, cells := 0, slots := 0, locals := 160 } [.ref a, .int kd, .int i] M (fun v M' => (pl_can kd i = true ∧ ∃ ps : List Nat, pt_p T [] ps ∧ (T.length < 120 ∧ pt_w T ps ≤ 30) ∧ v = some (.int (nI T.length)) ∧ M' a = some (md_E (nI (T.length + 1)) kd' wh' f1 f2 f3 wg ea sp rt 0 ak wr pl tk fa st) ∧ md_A Z M' kd' wh' f1 f2 f3 wg pl (T ++ [(kd, (pl_wh kd i), 0, ps, pt_w T ps)]) ∧ (∀ q : Nat, q ≠ a → q ∉ [kd', wh', f1, f2, f3, wg] → M' q = M q)) ∨ (v = some (.int 0) ∧ (∃ code : Int32, M' a = some (md_E (nI T.length) kd' wh' f1 f2 f3 wg ea sp rt code ak wr pl tk fa st) ∧ ((pl_can kd i = false ∧ code = 1) ∨ (pl_can kd i = true ∧ (∀ ps, ¬ pt_p T [] ps) ∧ code = 2) ∨ (pl_can kd i = true ∧ ∃ ps, pt_p T [] ps ∧ ¬ (T.length < 120 ∧ pt_w T ps ≤ 30) ∧ code = 2))) ∧ md_A Z M' kd' wh' f1 f2 f3 wg pl T ∧ (∀ q : Nat, q ≠ a → q ∉ [kd', wh', f1, f2, f3, wg] → M' q = M q))) mm_nx := by
  refine mm_ofW (cc := cX2_leaf) (maxL := 4) (ret := (some .int)) (by decide) rfl (Nat.le_of_ble_eq_true rfl) ?_
  intro p e s m below meth c A ls hx hb hr hlk hml hown hmn hts htab hE hST hA hM hS hl
  replace hl : lv_has ls 4 [(0, .ref a), (1, .int kd), (2, .int i)] := hl
  obtain ⟨g5, hg5, hl9, hgw, hg30⟩ := hA9.par
  obtain ⟨b5, hb5⟩ : ∃ z, z = pl_can kd i := ⟨_, rfl⟩
  obtain ⟨b6, hb6⟩ : ∃ z, z = decide (T.length < 120) := ⟨_, rfl⟩
  refine mm_cutW (v0 := mm_b b5) (pc2 := 47) (ls := ls) (rest := []) (M := M) (fun kk => ?_) (fun H locs hM hS => ?_) hM hS
  · skip
    refine lv_iload_n hx hb dX2_leaf_0 rfl (lv_at hl 1 rfl) ?_
    refine lv_if_ne (tgt := 15) hx hb dX2_leaf_1 (by decide) (fun c_1 => ?_) (fun c_1 => ?_)
    · skip
      refine lv_iload_n hx hb dX2_leaf_15 rfl (lv_at hl 1 rfl) ?_
      refine lv_iconst (v := 1) hx hb dX2_leaf_16 (by decide) ?_
      refine lv_icmp_ne (tgt := 30) hx hb dX2_leaf_17 (by decide) (fun c_2 => ?_) (fun c_2 => ?_)
      · skip
        refine lv_iload_n hx hb dX2_leaf_30 rfl (lv_at hl 1 rfl) ?_
        refine lv_bipush (v := 6) hx hb dX2_leaf_31 (by decide) ?_
        refine lv_icmp_eq (tgt := 42) hx hb dX2_leaf_33 (by decide) (fun c_3 => ?_) (fun c_3 => ?_)
        · skip
          refine lv_iconst (v := 1) hx hb dX2_leaf_42 (by decide) ?_
          refine lv_goto (tgt := 47) hx hb dX2_leaf_43 (by decide) ?_
          exact kk _ _ _ hM hS (show (mm_b b5 : Int32) = 1 from by (first | (rw [hb5]; (try simp only [mm_b_0] at c_1); (try simp only [mm_b_0] at c_2); (try simp only [mm_b_0] at c_3); simp [pl_can, mm_b, c_1, c_2, c_3]; done) | exact absurd (c_1.symm.trans c_2) (by decide) | exact absurd (c_1.symm.trans c_3) (by decide) | exact absurd (c_2.symm.trans c_3) (by decide))).symm
        · skip
          refine lv_iload_n hx hb dX2_leaf_36 rfl (lv_at hl 1 rfl) ?_
          refine lv_bipush (v := 15) hx hb dX2_leaf_37 (by decide) ?_
          refine lv_icmp_ne (tgt := 46) hx hb dX2_leaf_39 (by decide) (fun c_4 => ?_) (fun c_4 => ?_)
          · skip
            refine lv_iconst (v := 0) hx hb dX2_leaf_46 (by decide) ?_
            exact kk _ _ _ hM hS (show (mm_b b5 : Int32) = 0 from by (first | (rw [hb5]; (try simp only [mm_b_0] at c_1); (try simp only [mm_b_0] at c_2); (try simp only [mm_b_0] at c_3); (try simp only [mm_b_0] at c_4); simp [pl_can, mm_b, c_1, c_2, c_3, c_4]; done) | exact absurd (c_1.symm.trans c_2) (by decide) | exact absurd (c_1.symm.trans c_3) (by decide) | exact absurd (c_1.symm.trans c_4) (by decide) | exact absurd (c_2.symm.trans c_3) (by decide) | exact absurd (c_2.symm.trans c_4) (by decide) | exact absurd (c_3.symm.trans c_4) (by decide))).symm
          · skip
            refine lv_iconst (v := 1) hx hb dX2_leaf_42 (by decide) ?_
            refine lv_goto (tgt := 47) hx hb dX2_leaf_43 (by decide) ?_
            exact kk _ _ _ hM hS (show (mm_b b5 : Int32) = 1 from by (first | (rw [hb5]; (try simp only [mm_b_0] at c_1); (try simp only [mm_b_0] at c_2); (try simp only [mm_b_0] at c_3); (try simp only [mm_b_0] at c_4); simp [pl_can, mm_b, c_1, c_2, c_3, c_4]; done) | exact absurd (c_1.symm.trans c_2) (by decide) | exact absurd (c_1.symm.trans c_3) (by decide) | exact absurd (c_1.symm.trans c_4) (by decide) | exact absurd (c_2.symm.trans c_3) (by decide) | exact absurd (c_2.symm.trans c_4) (by decide) | exact absurd (c_3.symm.trans c_4) (by decide))).symm
      · skip
        refine lv_iload_n hx hb dX2_leaf_20 rfl (lv_at hl 2 rfl) ?_
        refine lv_iconst (v := 0) hx hb dX2_leaf_21 (by decide) ?_
        refine lv_bipush (v := 9) hx hb dX2_leaf_22 (by decide) ?_
        refine mm_callS (As := [.int i, .int 0, .int 9]) (rest := []) ⟨hx, hb, hml, hown, hts⟩ hE hST hA (c_X2_in l Z) (va_cwS 3 hts (lw_S q2438 q2439 q54 q2440) rfl rfl rfl (by decide +kernel) ⟨(Nat.le_of_ble_eq_true rfl), (Nat.le_of_ble_eq_true rfl)⟩) hM hS rfl hl.1 (Nat.le_of_ble_eq_true rfl) dX2_leaf_24 rfl ⟨(Nat.le_of_ble_eq_true rfl), (Nat.le_of_ble_eq_true rfl)⟩ (fun _ _ _ _ _ _ h9 => h9.elim) (fun v_3 M_4 H locs hp_5 hM hS => ?_)
        obtain ⟨rfl, eM_4⟩ := hp_5
        rw [eM_4] at hM
        refine lv_if_ne (tgt := 42) hx hb dX2_leaf_27 (by decide) (fun c_6 => ?_) (fun c_6 => ?_)
        · skip
          refine lv_iconst (v := 1) hx hb dX2_leaf_42 (by decide) ?_
          refine lv_goto (tgt := 47) hx hb dX2_leaf_43 (by decide) ?_
          exact kk _ _ _ hM hS (show (mm_b b5 : Int32) = 1 from by (first | (rw [hb5]; (try simp only [mm_b_0] at c_1); (try simp only [mm_b_0] at c_2); (try simp only [mm_b_0] at c_6); simp [pl_can, mm_b, c_1, c_2, c_6]; done) | exact absurd (c_1.symm.trans c_2) (by decide) | exact absurd (c_1.symm.trans c_6) (by decide) | exact absurd (c_2.symm.trans c_6) (by decide))).symm
        · skip
          refine lv_iload_n hx hb dX2_leaf_30 rfl (lv_at hl 1 rfl) ?_
          refine lv_bipush (v := 6) hx hb dX2_leaf_31 (by decide) ?_
          refine lv_icmp_eq (tgt := 42) hx hb dX2_leaf_33 (by decide) (fun c_7 => ?_) (fun c_7 => ?_)
          · skip
            refine lv_iconst (v := 1) hx hb dX2_leaf_42 (by decide) ?_
            refine lv_goto (tgt := 47) hx hb dX2_leaf_43 (by decide) ?_
            exact kk _ _ _ hM hS (show (mm_b b5 : Int32) = 1 from by (first | (rw [hb5]; (try simp only [mm_b_0] at c_1); (try simp only [mm_b_0] at c_2); (try simp only [mm_b_0] at c_6); (try simp only [mm_b_0] at c_7); simp [pl_can, mm_b, c_1, c_2, c_6, c_7]; done) | exact absurd (c_1.symm.trans c_2) (by decide) | exact absurd (c_1.symm.trans c_6) (by decide) | exact absurd (c_1.symm.trans c_7) (by decide) | exact absurd (c_2.symm.trans c_6) (by decide) | exact absurd (c_2.symm.trans c_7) (by decide) | exact absurd (c_6.symm.trans c_7) (by decide))).symm
          · skip
            refine lv_iload_n hx hb dX2_leaf_36 rfl (lv_at hl 1 rfl) ?_
            refine lv_bipush (v := 15) hx hb dX2_leaf_37 (by decide) ?_
            refine lv_icmp_ne (tgt := 46) hx hb dX2_leaf_39 (by decide) (fun c_8 => ?_) (fun c_8 => ?_)
            · skip
              refine lv_iconst (v := 0) hx hb dX2_leaf_46 (by decide) ?_
              exact kk _ _ _ hM hS (show (mm_b b5 : Int32) = 0 from by (first | (rw [hb5]; (try simp only [mm_b_0] at c_1); (try simp only [mm_b_0] at c_2); (try simp only [mm_b_0] at c_6); (try simp only [mm_b_0] at c_7); (try simp only [mm_b_0] at c_8); simp [pl_can, mm_b, c_1, c_2, c_6, c_7, c_8]; done) | exact absurd (c_1.symm.trans c_2) (by decide) | exact absurd (c_1.symm.trans c_6) (by decide) | exact absurd (c_1.symm.trans c_7) (by decide) | exact absurd (c_1.symm.trans c_8) (by decide) | exact absurd (c_2.symm.trans c_6) (by decide) | exact absurd (c_2.symm.trans c_7) (by decide) | exact absurd (c_2.symm.trans c_8) (by decide) | exact absurd (c_6.symm.trans c_7) (by decide) | exact absurd (c_6.symm.trans c_8) (by decide) | exact absurd (c_7.symm.trans c_8) (by decide))).symm
            · skip
              refine lv_iconst (v := 1) hx hb dX2_leaf_42 (by decide) ?_
              refine lv_goto (tgt := 47) hx hb dX2_leaf_43 (by decide) ?_
              exact kk _ _ _ hM hS (show (mm_b b5 : Int32) = 1 from by (first | (rw [hb5]; (try simp only [mm_b_0] at c_1); (try simp only [mm_b_0] at c_2); (try simp only [mm_b_0] at c_6); (try simp only [mm_b_0] at c_7); (try simp only [mm_b_0] at c_8); simp [pl_can, mm_b, c_1, c_2, c_6, c_7, c_8]; done) | exact absurd (c_1.symm.trans c_2) (by decide) | exact absurd (c_1.symm.trans c_6) (by decide) | exact absurd (c_1.symm.trans c_7) (by decide) | exact absurd (c_1.symm.trans c_8) (by decide) | exact absurd (c_2.symm.trans c_6) (by decide) | exact absurd (c_2.symm.trans c_7) (by decide) | exact absurd (c_2.symm.trans c_8) (by decide) | exact absurd (c_6.symm.trans c_7) (by decide) | exact absurd (c_6.symm.trans c_8) (by decide) | exact absurd (c_7.symm.trans c_8) (by decide))).symm
    · skip
      refine lv_iload_n hx hb dX2_leaf_4 rfl (lv_at hl 2 rfl) ?_
      refine lv_bipush (v := -99) hx hb dX2_leaf_5 (by decide) ?_
      refine lv_bipush (v := 99) hx hb dX2_leaf_7 (by decide) ?_
      refine mm_callS (As := [.int i, .int (-99), .int 99]) (rest := []) ⟨hx, hb, hml, hown, hts⟩ hE hST hA (c_X2_in l Z) (va_cwS 3 hts (lw_S q2438 q2439 q54 q2440) rfl rfl rfl (by decide +kernel) ⟨(Nat.le_of_ble_eq_true rfl), (Nat.le_of_ble_eq_true rfl)⟩) hM hS rfl hl.1 (Nat.le_of_ble_eq_true rfl) dX2_leaf_9 rfl ⟨(Nat.le_of_ble_eq_true rfl), (Nat.le_of_ble_eq_true rfl)⟩ (fun _ _ _ _ _ _ h9 => h9.elim) (fun v_2 M_3 H locs hp_4 hM hS => ?_)
      obtain ⟨rfl, eM_3⟩ := hp_4
      rw [eM_3] at hM
      refine lv_if_ne (tgt := 42) hx hb dX2_leaf_12 (by decide) (fun c_5 => ?_) (fun c_5 => ?_)
      · skip
        refine lv_iconst (v := 1) hx hb dX2_leaf_42 (by decide) ?_
        refine lv_goto (tgt := 47) hx hb dX2_leaf_43 (by decide) ?_
        exact kk _ _ _ hM hS (show (mm_b b5 : Int32) = 1 from by (first | (rw [hb5]; (try simp only [mm_b_0] at c_1); (try simp only [mm_b_0] at c_5); simp [pl_can, mm_b, c_1, c_5]; done) | exact absurd (c_1.symm.trans c_5) (by decide))).symm
      · skip
        refine lv_iload_n hx hb dX2_leaf_15 rfl (lv_at hl 1 rfl) ?_
        refine lv_iconst (v := 1) hx hb dX2_leaf_16 (by decide) ?_
        refine lv_icmp_ne (tgt := 30) hx hb dX2_leaf_17 (by decide) (fun c_6 => ?_) (fun c_6 => ?_)
        · skip
          refine lv_iload_n hx hb dX2_leaf_30 rfl (lv_at hl 1 rfl) ?_
          refine lv_bipush (v := 6) hx hb dX2_leaf_31 (by decide) ?_
          refine lv_icmp_eq (tgt := 42) hx hb dX2_leaf_33 (by decide) (fun c_7 => ?_) (fun c_7 => ?_)
          · skip
            refine lv_iconst (v := 1) hx hb dX2_leaf_42 (by decide) ?_
            refine lv_goto (tgt := 47) hx hb dX2_leaf_43 (by decide) ?_
            exact kk _ _ _ hM hS (show (mm_b b5 : Int32) = 1 from by (first | (rw [hb5]; (try simp only [mm_b_0] at c_1); (try simp only [mm_b_0] at c_5); (try simp only [mm_b_0] at c_6); (try simp only [mm_b_0] at c_7); simp [pl_can, mm_b, c_1, c_5, c_6, c_7]; done) | exact absurd (c_1.symm.trans c_5) (by decide) | exact absurd (c_1.symm.trans c_6) (by decide) | exact absurd (c_1.symm.trans c_7) (by decide) | exact absurd (c_5.symm.trans c_6) (by decide) | exact absurd (c_5.symm.trans c_7) (by decide) | exact absurd (c_6.symm.trans c_7) (by decide))).symm
          · skip
            refine lv_iload_n hx hb dX2_leaf_36 rfl (lv_at hl 1 rfl) ?_
            refine lv_bipush (v := 15) hx hb dX2_leaf_37 (by decide) ?_
            refine lv_icmp_ne (tgt := 46) hx hb dX2_leaf_39 (by decide) (fun c_8 => ?_) (fun c_8 => ?_)
            · skip
              refine lv_iconst (v := 0) hx hb dX2_leaf_46 (by decide) ?_
              exact kk _ _ _ hM hS (show (mm_b b5 : Int32) = 0 from by (first | (rw [hb5]; (try simp only [mm_b_0] at c_1); (try simp only [mm_b_0] at c_5); (try simp only [mm_b_0] at c_6); (try simp only [mm_b_0] at c_7); (try simp only [mm_b_0] at c_8); simp [pl_can, mm_b, c_1, c_5, c_6, c_7, c_8]; done) | exact absurd (c_1.symm.trans c_5) (by decide) | exact absurd (c_1.symm.trans c_6) (by decide) | exact absurd (c_1.symm.trans c_7) (by decide) | exact absurd (c_1.symm.trans c_8) (by decide) | exact absurd (c_5.symm.trans c_6) (by decide) | exact absurd (c_5.symm.trans c_7) (by decide) | exact absurd (c_5.symm.trans c_8) (by decide) | exact absurd (c_6.symm.trans c_7) (by decide) | exact absurd (c_6.symm.trans c_8) (by decide) | exact absurd (c_7.symm.trans c_8) (by decide))).symm
            · skip
              refine lv_iconst (v := 1) hx hb dX2_leaf_42 (by decide) ?_
              refine lv_goto (tgt := 47) hx hb dX2_leaf_43 (by decide) ?_
              exact kk _ _ _ hM hS (show (mm_b b5 : Int32) = 1 from by (first | (rw [hb5]; (try simp only [mm_b_0] at c_1); (try simp only [mm_b_0] at c_5); (try simp only [mm_b_0] at c_6); (try simp only [mm_b_0] at c_7); (try simp only [mm_b_0] at c_8); simp [pl_can, mm_b, c_1, c_5, c_6, c_7, c_8]; done) | exact absurd (c_1.symm.trans c_5) (by decide) | exact absurd (c_1.symm.trans c_6) (by decide) | exact absurd (c_1.symm.trans c_7) (by decide) | exact absurd (c_1.symm.trans c_8) (by decide) | exact absurd (c_5.symm.trans c_6) (by decide) | exact absurd (c_5.symm.trans c_7) (by decide) | exact absurd (c_5.symm.trans c_8) (by decide) | exact absurd (c_6.symm.trans c_7) (by decide) | exact absurd (c_6.symm.trans c_8) (by decide) | exact absurd (c_7.symm.trans c_8) (by decide))).symm
        · skip
          refine lv_iload_n hx hb dX2_leaf_20 rfl (lv_at hl 2 rfl) ?_
          refine lv_iconst (v := 0) hx hb dX2_leaf_21 (by decide) ?_
          refine lv_bipush (v := 9) hx hb dX2_leaf_22 (by decide) ?_
          refine mm_callS (As := [.int i, .int 0, .int 9]) (rest := []) ⟨hx, hb, hml, hown, hts⟩ hE hST hA (c_X2_in l Z) (va_cwS 3 hts (lw_S q2438 q2439 q54 q2440) rfl rfl rfl (by decide +kernel) ⟨(Nat.le_of_ble_eq_true rfl), (Nat.le_of_ble_eq_true rfl)⟩) hM hS rfl hl.1 (Nat.le_of_ble_eq_true rfl) dX2_leaf_24 rfl ⟨(Nat.le_of_ble_eq_true rfl), (Nat.le_of_ble_eq_true rfl)⟩ (fun _ _ _ _ _ _ h9 => h9.elim) (fun v_7 M_8 H locs hp_9 hM hS => ?_)
          obtain ⟨rfl, eM_8⟩ := hp_9
          rw [eM_8] at hM
          refine lv_if_ne (tgt := 42) hx hb dX2_leaf_27 (by decide) (fun c_10 => ?_) (fun c_10 => ?_)
          · skip
            refine lv_iconst (v := 1) hx hb dX2_leaf_42 (by decide) ?_
            refine lv_goto (tgt := 47) hx hb dX2_leaf_43 (by decide) ?_
            exact kk _ _ _ hM hS (show (mm_b b5 : Int32) = 1 from by (first | (rw [hb5]; (try simp only [mm_b_0] at c_1); (try simp only [mm_b_0] at c_5); (try simp only [mm_b_0] at c_6); (try simp only [mm_b_0] at c_10); simp [pl_can, mm_b, c_1, c_5, c_6, c_10]; done) | exact absurd (c_1.symm.trans c_5) (by decide) | exact absurd (c_1.symm.trans c_6) (by decide) | exact absurd (c_1.symm.trans c_10) (by decide) | exact absurd (c_5.symm.trans c_6) (by decide) | exact absurd (c_5.symm.trans c_10) (by decide) | exact absurd (c_6.symm.trans c_10) (by decide))).symm
          · skip
            refine lv_iload_n hx hb dX2_leaf_30 rfl (lv_at hl 1 rfl) ?_
            refine lv_bipush (v := 6) hx hb dX2_leaf_31 (by decide) ?_
            refine lv_icmp_eq (tgt := 42) hx hb dX2_leaf_33 (by decide) (fun c_11 => ?_) (fun c_11 => ?_)
            · skip
              refine lv_iconst (v := 1) hx hb dX2_leaf_42 (by decide) ?_
              refine lv_goto (tgt := 47) hx hb dX2_leaf_43 (by decide) ?_
              exact kk _ _ _ hM hS (show (mm_b b5 : Int32) = 1 from by (first | (rw [hb5]; (try simp only [mm_b_0] at c_1); (try simp only [mm_b_0] at c_5); (try simp only [mm_b_0] at c_6); (try simp only [mm_b_0] at c_10); (try simp only [mm_b_0] at c_11); simp [pl_can, mm_b, c_1, c_5, c_6, c_10, c_11]; done) | exact absurd (c_1.symm.trans c_5) (by decide) | exact absurd (c_1.symm.trans c_6) (by decide) | exact absurd (c_1.symm.trans c_10) (by decide) | exact absurd (c_1.symm.trans c_11) (by decide) | exact absurd (c_5.symm.trans c_6) (by decide) | exact absurd (c_5.symm.trans c_10) (by decide) | exact absurd (c_5.symm.trans c_11) (by decide) | exact absurd (c_6.symm.trans c_10) (by decide) | exact absurd (c_6.symm.trans c_11) (by decide) | exact absurd (c_10.symm.trans c_11) (by decide))).symm
            · skip
              refine lv_iload_n hx hb dX2_leaf_36 rfl (lv_at hl 1 rfl) ?_
              refine lv_bipush (v := 15) hx hb dX2_leaf_37 (by decide) ?_
              refine lv_icmp_ne (tgt := 46) hx hb dX2_leaf_39 (by decide) (fun c_12 => ?_) (fun c_12 => ?_)
              · skip
                refine lv_iconst (v := 0) hx hb dX2_leaf_46 (by decide) ?_
                exact kk _ _ _ hM hS (show (mm_b b5 : Int32) = 0 from by (first | (rw [hb5]; (try simp only [mm_b_0] at c_1); (try simp only [mm_b_0] at c_5); (try simp only [mm_b_0] at c_6); (try simp only [mm_b_0] at c_10); (try simp only [mm_b_0] at c_11); (try simp only [mm_b_0] at c_12); simp [pl_can, mm_b, c_1, c_5, c_6, c_10, c_11, c_12]; done) | exact absurd (c_1.symm.trans c_5) (by decide) | exact absurd (c_1.symm.trans c_6) (by decide) | exact absurd (c_1.symm.trans c_10) (by decide) | exact absurd (c_1.symm.trans c_11) (by decide) | exact absurd (c_1.symm.trans c_12) (by decide) | exact absurd (c_5.symm.trans c_6) (by decide) | exact absurd (c_5.symm.trans c_10) (by decide) | exact absurd (c_5.symm.trans c_11) (by decide) | exact absurd (c_5.symm.trans c_12) (by decide) | exact absurd (c_6.symm.trans c_10) (by decide) | exact absurd (c_6.symm.trans c_11) (by decide) | exact absurd (c_6.symm.trans c_12) (by decide) | exact absurd (c_10.symm.trans c_11) (by decide) | exact absurd (c_10.symm.trans c_12) (by decide) | exact absurd (c_11.symm.trans c_12) (by decide))).symm
              · skip
                refine lv_iconst (v := 1) hx hb dX2_leaf_42 (by decide) ?_
                refine lv_goto (tgt := 47) hx hb dX2_leaf_43 (by decide) ?_
                exact kk _ _ _ hM hS (show (mm_b b5 : Int32) = 1 from by (first | (rw [hb5]; (try simp only [mm_b_0] at c_1); (try simp only [mm_b_0] at c_5); (try simp only [mm_b_0] at c_6); (try simp only [mm_b_0] at c_10); (try simp only [mm_b_0] at c_11); (try simp only [mm_b_0] at c_12); simp [pl_can, mm_b, c_1, c_5, c_6, c_10, c_11, c_12]; done) | exact absurd (c_1.symm.trans c_5) (by decide) | exact absurd (c_1.symm.trans c_6) (by decide) | exact absurd (c_1.symm.trans c_10) (by decide) | exact absurd (c_1.symm.trans c_11) (by decide) | exact absurd (c_1.symm.trans c_12) (by decide) | exact absurd (c_5.symm.trans c_6) (by decide) | exact absurd (c_5.symm.trans c_10) (by decide) | exact absurd (c_5.symm.trans c_11) (by decide) | exact absurd (c_5.symm.trans c_12) (by decide) | exact absurd (c_6.symm.trans c_10) (by decide) | exact absurd (c_6.symm.trans c_11) (by decide) | exact absurd (c_6.symm.trans c_12) (by decide) | exact absurd (c_10.symm.trans c_11) (by decide) | exact absurd (c_10.symm.trans c_12) (by decide) | exact absurd (c_11.symm.trans c_12) (by decide))).symm
  refine lv_istore_n hx hb dX2_leaf_47 rfl hl (by decide) rfl (fun ls hl => ?_)
  replace hl : lv_has ls 4 [(3, .int (mm_b b5)), (0, .ref a), (1, .int kd), (2, .int i)] := hl
  refine lv_aload_n hx hb dX2_leaf_48 rfl (lv_at hl 1 rfl) ?_
  refine lv_iload_n hx hb dX2_leaf_49 rfl (lv_at hl 0 rfl) ?_
  refine lv_aload_n hx hb dX2_leaf_50 rfl (lv_at hl 1 rfl) ?_
  refine va_get (D := Z.1) (ci := 1) (v := .int (nI T.length)) (C := RX2) (T := TX2) (N := 17) hx hb hts in_X2 hown hE.1 (hM.at hm9) 0 rfl mm_cX2 0 (by decide) (hts _ q2378) (fun _ h9 => h9) rfl dX2_leaf_51 ?_
  refine lv_bipush (v := 120) hx hb dX2_leaf_54 (by decide) ?_
  refine mm_cutW (v0 := mm_b b6) (pc2 := 64) (ls := ls) (rest := [.int (mm_b b5), .ref a]) (M := M) (fun kk => ?_) (fun H locs hM hS => ?_) hM hS
  · skip
    refine lv_icmp_ge (tgt := 63) hx hb dX2_leaf_56 (by decide) (fun c_1 => ?_) (fun c_1 => ?_)
    · skip
      refine lv_iconst (v := 0) hx hb dX2_leaf_63 (by decide) ?_
      exact kk _ _ _ hM hS (show (mm_b b6 : Int32) = 0 from by (rw [hb6]; first | (rw [decide_eq_false (fun h9 => absurd (nI_lt (b := 120) h9 (by omega)) (Int32.not_lt.2 c_1))]; rfl) | (rw [decide_eq_true ((nI_ltI (b := 120) (by omega) (by omega)).1 (Int32.not_le.1 c_1))]; rfl))).symm
    · skip
      refine lv_iconst (v := 1) hx hb dX2_leaf_59 (by decide) ?_
      refine lv_goto (tgt := 64) hx hb dX2_leaf_60 (by decide) ?_
      exact kk _ _ _ hM hS (show (mm_b b6 : Int32) = 1 from by (rw [hb6]; first | (rw [decide_eq_false (fun h9 => absurd (nI_lt (b := 120) h9 (by omega)) (Int32.not_lt.2 c_1))]; rfl) | (rw [decide_eq_true ((nI_ltI (b := 120) (by omega) (by omega)).1 (Int32.not_le.1 c_1))]; rfl))).symm
  cases b5
  · skip
    cases b6
    · skip
      refine lv_iconst (v := 1) hx hb dX2_leaf_64 (by decide) ?_
      refine mm_callV (As := [.int (mm_b false), .int (mm_b false), .int (mm_b true)]) (rest := []) ⟨hx, hb, hml, hown, hts⟩ hE hST hA (c_X2_goes l Z (b1 := false) (b2 := false) (b3 := true) hm9) (cwV 3 hts (lw_V q2441 q2443 qs28 q54 q2444) rfl rfl rfl (by decide +kernel) ⟨(Nat.le_of_ble_eq_true rfl), (Nat.le_of_ble_eq_true rfl)⟩) hM hS mm_cX2 hm9 rfl hl.1 (Nat.le_of_ble_eq_true rfl) dX2_leaf_65 rfl ⟨(Nat.le_of_ble_eq_true rfl), (Nat.le_of_ble_eq_true rfl)⟩ (fun _ _ _ _ _ _ h9 => h9.elim) (fun v_1 M_2 H locs hp_3 hM hS => ?_)
      obtain ⟨rfl, e0M_2⟩ := hp_3
      have eM_2 : M_2 = mm_U M a (.inr (1, [.int (nI T.length), .ref kd', .ref wh', .ref f1, .ref f2, .ref f3, .ref wg, .int ea, .int sp, va_rf rt, .int 1, .int ak, .int wr, .ref pl, .int tk, .int (mm_b fa), .long st])) := e0M_2
      rw [eM_2] at hM
      have hc_4 : (mm_U M a (.inr (1, [.int (nI T.length), .ref kd', .ref wh', .ref f1, .ref f2, .ref f3, .ref wg, .int ea, .int sp, va_rf rt, .int 1, .int ak, .int wr, .ref pl, .int tk, .int (mm_b fa), .long st]))) a = some (.inr (1, [.int (nI T.length), .ref kd', .ref wh', .ref f1, .ref f2, .ref f3, .ref wg, .int ea, .int sp, va_rf rt, .int 1, .int ak, .int wr, .ref pl, .int tk, .int (mm_b fa), .long st])) := mm_U_eq
      obtain ⟨M_5, eM_5⟩ : ∃ z, z = mm_U M a (.inr (1, [.int (nI T.length), .ref kd', .ref wh', .ref f1, .ref f2, .ref f3, .ref wg, .int ea, .int sp, va_rf rt, .int 1, .int ak, .int wr, .ref pl, .int tk, .int (mm_b fa), .long st])) := ⟨_, rfl⟩
      rw [← eM_5] at hM hc_4
      refine lv_if_eq (tgt := 83) hx hb dX2_leaf_68 (by decide) (fun _ => ?_) (fun h9 => absurd (by decide) h9)
      have hA8 : md_A Z M_5 kd' wh' f1 f2 f3 wg pl T := by rw [eM_5]; exact hA9.U hm9
      have hfr : ∀ q : Nat, q ≠ a → M_5 q = M q := fun q h1 => by rw [eM_5]; exact mm_U_ne h1
      refine lv_iconst (v := 0) hx hb dX2_leaf_83 (by decide) ?_
      exact mm_reti hx hb hr hlk hM hS (Or.inr ⟨rfl, ⟨1, hc_4, Or.inl ⟨hb5.symm, rfl⟩⟩, hA8, fun q h1 _ => hfr q h1⟩) dX2_leaf_84 (Nat.le_of_ble_eq_true rfl) (Nat.le_of_ble_eq_true rfl)
    · skip
      refine lv_iconst (v := 1) hx hb dX2_leaf_64 (by decide) ?_
      refine mm_callV (As := [.int (mm_b false), .int (mm_b true), .int (mm_b true)]) (rest := []) ⟨hx, hb, hml, hown, hts⟩ hE hST hA (c_X2_goes l Z (b1 := false) (b2 := true) (b3 := true) hm9) (cwV 3 hts (lw_V q2441 q2443 qs28 q54 q2444) rfl rfl rfl (by decide +kernel) ⟨(Nat.le_of_ble_eq_true rfl), (Nat.le_of_ble_eq_true rfl)⟩) hM hS mm_cX2 hm9 rfl hl.1 (Nat.le_of_ble_eq_true rfl) dX2_leaf_65 rfl ⟨(Nat.le_of_ble_eq_true rfl), (Nat.le_of_ble_eq_true rfl)⟩ (fun _ _ _ _ _ _ h9 => h9.elim) (fun v_1 M_2 H locs hp_3 hM hS => ?_)
      obtain ⟨rfl, e0M_2⟩ := hp_3
      have eM_2 : M_2 = mm_U M a (.inr (1, [.int (nI T.length), .ref kd', .ref wh', .ref f1, .ref f2, .ref f3, .ref wg, .int ea, .int sp, va_rf rt, .int 1, .int ak, .int wr, .ref pl, .int tk, .int (mm_b fa), .long st])) := e0M_2
      rw [eM_2] at hM
      have hc_4 : (mm_U M a (.inr (1, [.int (nI T.length), .ref kd', .ref wh', .ref f1, .ref f2, .ref f3, .ref wg, .int ea, .int sp, va_rf rt, .int 1, .int ak, .int wr, .ref pl, .int tk, .int (mm_b fa), .long st]))) a = some (.inr (1, [.int (nI T.length), .ref kd', .ref wh', .ref f1, .ref f2, .ref f3, .ref wg, .int ea, .int sp, va_rf rt, .int 1, .int ak, .int wr, .ref pl, .int tk, .int (mm_b fa), .long st])) := mm_U_eq
      obtain ⟨M_5, eM_5⟩ : ∃ z, z = mm_U M a (.inr (1, [.int (nI T.length), .ref kd', .ref wh', .ref f1, .ref f2, .ref f3, .ref wg, .int ea, .int sp, va_rf rt, .int 1, .int ak, .int wr, .ref pl, .int tk, .int (mm_b fa), .long st])) := ⟨_, rfl⟩
      rw [← eM_5] at hM hc_4
      refine lv_if_eq (tgt := 83) hx hb dX2_leaf_68 (by decide) (fun _ => ?_) (fun h9 => absurd (by decide) h9)
      have hA8 : md_A Z M_5 kd' wh' f1 f2 f3 wg pl T := by rw [eM_5]; exact hA9.U hm9
      have hfr : ∀ q : Nat, q ≠ a → M_5 q = M q := fun q h1 => by rw [eM_5]; exact mm_U_ne h1
      refine lv_iconst (v := 0) hx hb dX2_leaf_83 (by decide) ?_
      exact mm_reti hx hb hr hlk hM hS (Or.inr ⟨rfl, ⟨1, hc_4, Or.inl ⟨hb5.symm, rfl⟩⟩, hA8, fun q h1 _ => hfr q h1⟩) dX2_leaf_84 (Nat.le_of_ble_eq_true rfl) (Nat.le_of_ble_eq_true rfl)
  · skip
    cases b6
    · skip
      refine lv_iconst (v := 1) hx hb dX2_leaf_64 (by decide) ?_
      refine mm_callV (As := [.int (mm_b true), .int (mm_b false), .int (mm_b true)]) (rest := []) ⟨hx, hb, hml, hown, hts⟩ hE hST hA (c_X2_goes l Z (b1 := true) (b2 := false) (b3 := true) hm9) (cwV 3 hts (lw_V q2441 q2443 qs28 q54 q2444) rfl rfl rfl (by decide +kernel) ⟨(Nat.le_of_ble_eq_true rfl), (Nat.le_of_ble_eq_true rfl)⟩) hM hS mm_cX2 hm9 rfl hl.1 (Nat.le_of_ble_eq_true rfl) dX2_leaf_65 rfl ⟨(Nat.le_of_ble_eq_true rfl), (Nat.le_of_ble_eq_true rfl)⟩ (fun _ _ _ _ _ _ h9 => h9.elim) (fun v_1 M_2 H locs hp_3 hM hS => ?_)
      obtain ⟨rfl, e0M_2⟩ := hp_3
      have eM_2 : M_2 = mm_U M a (.inr (1, [.int (nI T.length), .ref kd', .ref wh', .ref f1, .ref f2, .ref f3, .ref wg, .int ea, .int sp, va_rf rt, .int 2, .int ak, .int wr, .ref pl, .int tk, .int (mm_b fa), .long st])) := e0M_2
      rw [eM_2] at hM
      have hc_4 : (mm_U M a (.inr (1, [.int (nI T.length), .ref kd', .ref wh', .ref f1, .ref f2, .ref f3, .ref wg, .int ea, .int sp, va_rf rt, .int 2, .int ak, .int wr, .ref pl, .int tk, .int (mm_b fa), .long st]))) a = some (.inr (1, [.int (nI T.length), .ref kd', .ref wh', .ref f1, .ref f2, .ref f3, .ref wg, .int ea, .int sp, va_rf rt, .int 2, .int ak, .int wr, .ref pl, .int tk, .int (mm_b fa), .long st])) := mm_U_eq
      obtain ⟨M_5, eM_5⟩ : ∃ z, z = mm_U M a (.inr (1, [.int (nI T.length), .ref kd', .ref wh', .ref f1, .ref f2, .ref f3, .ref wg, .int ea, .int sp, va_rf rt, .int 2, .int ak, .int wr, .ref pl, .int tk, .int (mm_b fa), .long st])) := ⟨_, rfl⟩
      rw [← eM_5] at hM hc_4
      refine lv_if_eq (tgt := 83) hx hb dX2_leaf_68 (by decide) (fun _ => ?_) (fun h9 => absurd (by decide) h9)
      have hA8 : md_A Z M_5 kd' wh' f1 f2 f3 wg pl T := by rw [eM_5]; exact hA9.U hm9
      have hfr : ∀ q : Nat, q ≠ a → M_5 q = M q := fun q h1 => by rw [eM_5]; exact mm_U_ne h1
      refine lv_iconst (v := 0) hx hb dX2_leaf_83 (by decide) ?_
      exact mm_reti hx hb hr hlk hM hS (Or.inr ⟨rfl, ⟨2, hc_4, (Or.inr (Or.inr ⟨hb5.symm, [], trivial, fun h9 => absurd h9.1 (of_decide_eq_false hb6.symm), rfl⟩))⟩, hA8, fun q h1 _ => hfr q h1⟩) dX2_leaf_84 (Nat.le_of_ble_eq_true rfl) (Nat.le_of_ble_eq_true rfl)
    · skip
      have hok : T.length < 120 ∧ pt_w T [] ≤ 30 := ⟨of_decide_eq_true hb6.symm, (by rw [pt_w_0]; decide)⟩
      refine lv_iconst (v := 1) hx hb dX2_leaf_64 (by decide) ?_
      refine mm_callV (As := [.int (mm_b true), .int (mm_b true), .int (mm_b true)]) (rest := []) ⟨hx, hb, hml, hown, hts⟩ hE hST hA (c_X2_goes l Z (b1 := true) (b2 := true) (b3 := true) hm9) (cwV 3 hts (lw_V q2441 q2443 qs28 q54 q2444) rfl rfl rfl (by decide +kernel) ⟨(Nat.le_of_ble_eq_true rfl), (Nat.le_of_ble_eq_true rfl)⟩) hM hS mm_cX2 hm9 rfl hl.1 (Nat.le_of_ble_eq_true rfl) dX2_leaf_65 rfl ⟨(Nat.le_of_ble_eq_true rfl), (Nat.le_of_ble_eq_true rfl)⟩ (fun _ _ _ _ _ _ h9 => h9.elim) (fun v_1 M_2 H locs hp_3 hM hS => ?_)
      obtain ⟨rfl, e0M_2⟩ := hp_3
      have eM_2 : M_2 = mm_U M a (.inr (1, [.int (nI T.length), .ref kd', .ref wh', .ref f1, .ref f2, .ref f3, .ref wg, .int ea, .int sp, va_rf rt, .int 0, .int ak, .int wr, .ref pl, .int tk, .int (mm_b fa), .long st])) := e0M_2
      rw [eM_2] at hM
      have hc_4 : (mm_U M a (.inr (1, [.int (nI T.length), .ref kd', .ref wh', .ref f1, .ref f2, .ref f3, .ref wg, .int ea, .int sp, va_rf rt, .int 0, .int ak, .int wr, .ref pl, .int tk, .int (mm_b fa), .long st]))) a = some (.inr (1, [.int (nI T.length), .ref kd', .ref wh', .ref f1, .ref f2, .ref f3, .ref wg, .int ea, .int sp, va_rf rt, .int 0, .int ak, .int wr, .ref pl, .int tk, .int (mm_b fa), .long st])) := mm_U_eq
      obtain ⟨M_5, eM_5⟩ : ∃ z, z = mm_U M a (.inr (1, [.int (nI T.length), .ref kd', .ref wh', .ref f1, .ref f2, .ref f3, .ref wg, .int ea, .int sp, va_rf rt, .int 0, .int ak, .int wr, .ref pl, .int tk, .int (mm_b fa), .long st])) := ⟨_, rfl⟩
      rw [← eM_5] at hM hc_4
      refine lv_if_eq (tgt := 83) hx hb dX2_leaf_68 (by decide) (fun h9 => absurd h9 (by decide)) (fun _ => ?_)
      have hA8 : md_A Z M_5 kd' wh' f1 f2 f3 wg pl T := by rw [eM_5]; exact hA9.U hm9
      have hfr : ∀ q : Nat, q ≠ a → M_5 q = M q := fun q h1 => by rw [eM_5]; exact mm_U_ne h1
      refine lv_aload_n hx hb dX2_leaf_71 rfl (lv_at hl 1 rfl) ?_
      refine lv_iload_n hx hb dX2_leaf_72 rfl (lv_at hl 2 rfl) ?_
      refine lv_iload_n hx hb dX2_leaf_73 rfl (lv_at hl 3 rfl) ?_
      refine lv_iconst (v := -1) hx hb dX2_leaf_74 (by decide) ?_
      refine lv_iconst (v := -1) hx hb dX2_leaf_75 (by decide) ?_
      refine lv_iconst (v := -1) hx hb dX2_leaf_76 (by decide) ?_
      have hmk : ∀ j ∈ ([] : List Nat), j < T.length := by intro j hj; simp only [List.mem_cons, List.not_mem_nil, or_false] at hj
      refine mm_callV (As := [.int kd, .int i, .int (-1), .int (-1), .int (-1)]) (rest := []) ⟨hx, hb, hml, hown, hts⟩ hE hST hA (c_X2_makes l Z (r := (kd, (pl_wh kd i), 0, [], pt_w T [])) hc_4 hA8 hok.1 (by decide : 0 ≤ 3) hmk rfl (pl_its hb5.symm) rfl hok.2) (cwV 5 hts (lw_V q2445 q2447 qs29 q54 q2448) rfl rfl rfl (by decide +kernel) ⟨(Nat.le_of_ble_eq_true rfl), (Nat.le_of_ble_eq_true rfl)⟩) hM hS mm_cX2 hc_4 rfl hl.1 (Nat.le_of_ble_eq_true rfl) dX2_leaf_77 rfl ⟨(Nat.le_of_ble_eq_true rfl), (Nat.le_of_ble_eq_true rfl)⟩ (fun _ _ _ _ _ _ h9 => h9.elim) (fun v_6 M_7 H locs hp_8 hM hS => ?_)
      obtain ⟨rfl, hm7, hA7, hfr7⟩ := hp_8
      refine lv_goto (tgt := 84) hx hb dX2_leaf_80 (by decide) ?_
      exact mm_reti hx hb hr hlk hM hS (Or.inl ⟨hb5.symm, [], trivial, hok, rfl, hm7, hA7, fun q h1 h2 => (hfr7 q h1 h2).trans (hfr q h1)⟩) dX2_leaf_84 (Nat.le_of_ble_eq_true rfl) (Nat.le_of_ble_eq_true rfl)
set_option maxHeartbeats 4000000 in
set_option maxRecDepth 100000 in
theorem c_X2_named (l : Launch) (Z : mm_G) {M : mm_M} {a kd' wh' f1 f2 f3 wg pl : Nat} {ea sp th ak wr tk : Int32} {rt : Option Nat} {fa : Bool} {st : Int64} {T : List pt_R} (hm9 : M a = some (md_E (nI T.length) kd' wh' f1 f2 f3 wg ea sp rt th ak wr pl tk fa st)) (hA9 : md_A Z M kd' wh' f1 f2 f3 wg pl T) {kd wh i1 i2 : Int32} : mm_C l Z yX2_named (ws_ yX2_named cX2_named 8 (some .int)) { frames := 4, cells := 0, slots := 0, locals := 160 } [.ref a, .int kd, .int wh, .int i1, .int i2] M (fun v M' => (((pn_two kd || pn_one kd) && decide (0 ≤ wh ∧ wh ≤ 9)) = true ∧ ∃ ps : List Nat, pt_p T (pn_spec (pn_two kd) i1 i2) ps ∧ (T.length < 120 ∧ pt_w T ps ≤ 30) ∧ v = some (.int (nI T.length)) ∧ M' a = some (md_E (nI (T.length + 1)) kd' wh' f1 f2 f3 wg ea sp rt 0 ak wr pl tk fa st) ∧ md_A Z M' kd' wh' f1 f2 f3 wg pl (T ++ [(kd, wh, 0, ps, pt_w T ps)]) ∧ (∀ q : Nat, q ≠ a → q ∉ [kd', wh', f1, f2, f3, wg] → M' q = M q)) ∨ (v = some (.int 0) ∧ (∃ code : Int32, M' a = some (md_E (nI T.length) kd' wh' f1 f2 f3 wg ea sp rt code ak wr pl tk fa st) ∧ ((((pn_two kd || pn_one kd) && decide (0 ≤ wh ∧ wh ≤ 9)) = false ∧ code = 1) ∨ (((pn_two kd || pn_one kd) && decide (0 ≤ wh ∧ wh ≤ 9)) = true ∧ (∀ ps, ¬ pt_p T (pn_spec (pn_two kd) i1 i2) ps) ∧ code = 2) ∨ (((pn_two kd || pn_one kd) && decide (0 ≤ wh ∧ wh ≤ 9)) = true ∧ ∃ ps, pt_p T (pn_spec (pn_two kd) i1 i2) ps ∧ ¬ (T.length < 120 ∧ pt_w T ps ≤ 30) ∧ code = 3))) ∧ md_A Z M' kd' wh' f1 f2 f3 wg pl T ∧ (∀ q : Nat, q ≠ a → q ∉ [kd', wh', f1, f2, f3, wg] → M' q = M q))) mm_nx := by
  refine mm_ofW (cc := cX2_named) (maxL := 8) (ret := (some .int)) (by decide) rfl (Nat.le_of_ble_eq_true rfl) ?_
  intro p e s m below meth c A ls hx hb hr hlk hml hown hmn hts htab hE hST hA hM hS hl
  replace hl : lv_has ls 8 [(0, .ref a), (1, .int kd), (2, .int wh), (3, .int i1), (4, .int i2)] := hl
  obtain ⟨g5, hg5, hl9, hgw, hg30⟩ := hA9.par
  obtain ⟨b5, hb5⟩ : ∃ z, z = ((pn_two kd || pn_one kd) && decide (0 ≤ wh ∧ wh ≤ 9)) := ⟨_, rfl⟩
  obtain ⟨p1, hp1⟩ : ∃ z, z = pt_is T false i1 := ⟨_, rfl⟩
  obtain ⟨p2, hp2⟩ : ∃ z, z = pt_is T false i2 := ⟨_, rfl⟩
  obtain ⟨t2, ht2⟩ : ∃ z, z = pn_two kd := ⟨_, rfl⟩
  refine mm_cutW (v0 := mm_b b5) (pc2 := 51) (ls := ls) (rest := []) (M := M) (fun kk => ?_) (fun H locs hM hS => ?_) hM hS
  · skip
    refine lv_iload_n hx hb dX2_named_0 rfl (lv_at hl 1 rfl) ?_
    refine lv_iconst (v := 2) hx hb dX2_named_1 (by decide) ?_
    refine lv_icmp_eq (tgt := 36) hx hb dX2_named_2 (by decide) (fun c_1 => ?_) (fun c_1 => ?_)
    · skip
      refine lv_iload_n hx hb dX2_named_36 rfl (lv_at hl 2 rfl) ?_
      refine lv_iconst (v := 0) hx hb dX2_named_37 (by decide) ?_
      refine lv_bipush (v := 9) hx hb dX2_named_38 (by decide) ?_
      refine mm_callS (As := [.int wh, .int 0, .int 9]) (rest := []) ⟨hx, hb, hml, hown, hts⟩ hE hST hA (c_X2_in l Z) (va_cwS 3 hts (lw_S q2438 q2439 q54 q2440) rfl rfl rfl (by decide +kernel) ⟨(Nat.le_of_ble_eq_true rfl), (Nat.le_of_ble_eq_true rfl)⟩) hM hS rfl hl.1 (Nat.le_of_ble_eq_true rfl) dX2_named_40 rfl ⟨(Nat.le_of_ble_eq_true rfl), (Nat.le_of_ble_eq_true rfl)⟩ (fun _ _ _ _ _ _ h9 => h9.elim) (fun v_2 M_3 H locs hp_4 hM hS => ?_)
      obtain ⟨rfl, eM_3⟩ := hp_4
      rw [eM_3] at hM
      refine lv_if_eq (tgt := 50) hx hb dX2_named_43 (by decide) (fun c_5 => ?_) (fun c_5 => ?_)
      · skip
        refine lv_iconst (v := 0) hx hb dX2_named_50 (by decide) ?_
        exact kk _ _ _ hM hS (show (mm_b b5 : Int32) = 0 from by (first | (rw [hb5]; (try simp only [mm_b_0] at c_1); (try simp only [mm_b_0] at c_5); simp [pn_one, mm_b, c_1, c_5]; done) | exact absurd (c_1.symm.trans c_5) (by decide))).symm
      · skip
        refine lv_iconst (v := 1) hx hb dX2_named_46 (by decide) ?_
        refine lv_goto (tgt := 51) hx hb dX2_named_47 (by decide) ?_
        exact kk _ _ _ hM hS (show (mm_b b5 : Int32) = 1 from by (first | (rw [hb5]; (try simp only [mm_b_0] at c_1); (try simp only [mm_b_0] at c_5); simp [pn_one, mm_b, c_1, c_5]; done) | exact absurd (c_1.symm.trans c_5) (by decide))).symm
    · skip
      refine lv_iload_n hx hb dX2_named_5 rfl (lv_at hl 1 rfl) ?_
      refine mm_callS (As := [.int kd]) (rest := []) ⟨hx, hb, hml, hown, hts⟩ hE hST hA (c_X2_isOfTwo_b l Z) (va_cwS 1 hts (lw_S q2457 q2458 q54 q2459) rfl rfl rfl (by decide +kernel) ⟨(Nat.le_of_ble_eq_true rfl), (Nat.le_of_ble_eq_true rfl)⟩) hM hS rfl hl.1 (Nat.le_of_ble_eq_true rfl) dX2_named_6 rfl ⟨(Nat.le_of_ble_eq_true rfl), (Nat.le_of_ble_eq_true rfl)⟩ (fun _ _ _ _ _ _ h9 => h9.elim) (fun v_2 M_3 H locs hp_4 hM hS => ?_)
      obtain ⟨rfl, eM_3⟩ := hp_4
      rw [eM_3] at hM
      refine lv_if_ne (tgt := 36) hx hb dX2_named_9 (by decide) (fun c_5 => ?_) (fun c_5 => ?_)
      · skip
        refine lv_iload_n hx hb dX2_named_36 rfl (lv_at hl 2 rfl) ?_
        refine lv_iconst (v := 0) hx hb dX2_named_37 (by decide) ?_
        refine lv_bipush (v := 9) hx hb dX2_named_38 (by decide) ?_
        refine mm_callS (As := [.int wh, .int 0, .int 9]) (rest := []) ⟨hx, hb, hml, hown, hts⟩ hE hST hA (c_X2_in l Z) (va_cwS 3 hts (lw_S q2438 q2439 q54 q2440) rfl rfl rfl (by decide +kernel) ⟨(Nat.le_of_ble_eq_true rfl), (Nat.le_of_ble_eq_true rfl)⟩) hM hS rfl hl.1 (Nat.le_of_ble_eq_true rfl) dX2_named_40 rfl ⟨(Nat.le_of_ble_eq_true rfl), (Nat.le_of_ble_eq_true rfl)⟩ (fun _ _ _ _ _ _ h9 => h9.elim) (fun v_6 M_7 H locs hp_8 hM hS => ?_)
        obtain ⟨rfl, eM_7⟩ := hp_8
        rw [eM_7] at hM
        refine lv_if_eq (tgt := 50) hx hb dX2_named_43 (by decide) (fun c_9 => ?_) (fun c_9 => ?_)
        · skip
          refine lv_iconst (v := 0) hx hb dX2_named_50 (by decide) ?_
          exact kk _ _ _ hM hS (show (mm_b b5 : Int32) = 0 from by (first | (rw [hb5]; (try simp only [mm_b_0] at c_1); (try simp only [mm_b_0] at c_5); (try simp only [mm_b_0] at c_9); simp [pn_one, mm_b, c_1, c_5, c_9]; done) | exact absurd (c_1.symm.trans c_5) (by decide) | exact absurd (c_1.symm.trans c_9) (by decide) | exact absurd (c_5.symm.trans c_9) (by decide))).symm
        · skip
          refine lv_iconst (v := 1) hx hb dX2_named_46 (by decide) ?_
          refine lv_goto (tgt := 51) hx hb dX2_named_47 (by decide) ?_
          exact kk _ _ _ hM hS (show (mm_b b5 : Int32) = 1 from by (first | (rw [hb5]; (try simp only [mm_b_0] at c_1); (try simp only [mm_b_0] at c_5); (try simp only [mm_b_0] at c_9); simp [pn_one, mm_b, c_1, c_5, c_9]; done) | exact absurd (c_1.symm.trans c_5) (by decide) | exact absurd (c_1.symm.trans c_9) (by decide) | exact absurd (c_5.symm.trans c_9) (by decide))).symm
      · skip
        refine lv_iload_n hx hb dX2_named_12 rfl (lv_at hl 1 rfl) ?_
        refine lv_bipush (v := 8) hx hb dX2_named_13 (by decide) ?_
        refine lv_icmp_eq (tgt := 36) hx hb dX2_named_15 (by decide) (fun c_6 => ?_) (fun c_6 => ?_)
        · skip
          refine lv_iload_n hx hb dX2_named_36 rfl (lv_at hl 2 rfl) ?_
          refine lv_iconst (v := 0) hx hb dX2_named_37 (by decide) ?_
          refine lv_bipush (v := 9) hx hb dX2_named_38 (by decide) ?_
          refine mm_callS (As := [.int wh, .int 0, .int 9]) (rest := []) ⟨hx, hb, hml, hown, hts⟩ hE hST hA (c_X2_in l Z) (va_cwS 3 hts (lw_S q2438 q2439 q54 q2440) rfl rfl rfl (by decide +kernel) ⟨(Nat.le_of_ble_eq_true rfl), (Nat.le_of_ble_eq_true rfl)⟩) hM hS rfl hl.1 (Nat.le_of_ble_eq_true rfl) dX2_named_40 rfl ⟨(Nat.le_of_ble_eq_true rfl), (Nat.le_of_ble_eq_true rfl)⟩ (fun _ _ _ _ _ _ h9 => h9.elim) (fun v_7 M_8 H locs hp_9 hM hS => ?_)
          obtain ⟨rfl, eM_8⟩ := hp_9
          rw [eM_8] at hM
          refine lv_if_eq (tgt := 50) hx hb dX2_named_43 (by decide) (fun c_10 => ?_) (fun c_10 => ?_)
          · skip
            refine lv_iconst (v := 0) hx hb dX2_named_50 (by decide) ?_
            exact kk _ _ _ hM hS (show (mm_b b5 : Int32) = 0 from by (first | (rw [hb5]; (try simp only [mm_b_0] at c_1); (try simp only [mm_b_0] at c_5); (try simp only [mm_b_0] at c_6); (try simp only [mm_b_0] at c_10); simp [pn_one, mm_b, c_1, c_5, c_6, c_10]; done) | exact absurd (c_1.symm.trans c_5) (by decide) | exact absurd (c_1.symm.trans c_6) (by decide) | exact absurd (c_1.symm.trans c_10) (by decide) | exact absurd (c_5.symm.trans c_6) (by decide) | exact absurd (c_5.symm.trans c_10) (by decide) | exact absurd (c_6.symm.trans c_10) (by decide))).symm
          · skip
            refine lv_iconst (v := 1) hx hb dX2_named_46 (by decide) ?_
            refine lv_goto (tgt := 51) hx hb dX2_named_47 (by decide) ?_
            exact kk _ _ _ hM hS (show (mm_b b5 : Int32) = 1 from by (first | (rw [hb5]; (try simp only [mm_b_0] at c_1); (try simp only [mm_b_0] at c_5); (try simp only [mm_b_0] at c_6); (try simp only [mm_b_0] at c_10); simp [pn_one, mm_b, c_1, c_5, c_6, c_10]; done) | exact absurd (c_1.symm.trans c_5) (by decide) | exact absurd (c_1.symm.trans c_6) (by decide) | exact absurd (c_1.symm.trans c_10) (by decide) | exact absurd (c_5.symm.trans c_6) (by decide) | exact absurd (c_5.symm.trans c_10) (by decide) | exact absurd (c_6.symm.trans c_10) (by decide))).symm
        · skip
          refine lv_iload_n hx hb dX2_named_18 rfl (lv_at hl 1 rfl) ?_
          refine lv_bipush (v := 9) hx hb dX2_named_19 (by decide) ?_
          refine lv_icmp_eq (tgt := 36) hx hb dX2_named_21 (by decide) (fun c_7 => ?_) (fun c_7 => ?_)
          · skip
            refine lv_iload_n hx hb dX2_named_36 rfl (lv_at hl 2 rfl) ?_
            refine lv_iconst (v := 0) hx hb dX2_named_37 (by decide) ?_
            refine lv_bipush (v := 9) hx hb dX2_named_38 (by decide) ?_
            refine mm_callS (As := [.int wh, .int 0, .int 9]) (rest := []) ⟨hx, hb, hml, hown, hts⟩ hE hST hA (c_X2_in l Z) (va_cwS 3 hts (lw_S q2438 q2439 q54 q2440) rfl rfl rfl (by decide +kernel) ⟨(Nat.le_of_ble_eq_true rfl), (Nat.le_of_ble_eq_true rfl)⟩) hM hS rfl hl.1 (Nat.le_of_ble_eq_true rfl) dX2_named_40 rfl ⟨(Nat.le_of_ble_eq_true rfl), (Nat.le_of_ble_eq_true rfl)⟩ (fun _ _ _ _ _ _ h9 => h9.elim) (fun v_8 M_9 H locs hp_10 hM hS => ?_)
            obtain ⟨rfl, eM_9⟩ := hp_10
            rw [eM_9] at hM
            refine lv_if_eq (tgt := 50) hx hb dX2_named_43 (by decide) (fun c_11 => ?_) (fun c_11 => ?_)
            · skip
              refine lv_iconst (v := 0) hx hb dX2_named_50 (by decide) ?_
              exact kk _ _ _ hM hS (show (mm_b b5 : Int32) = 0 from by (first | (rw [hb5]; (try simp only [mm_b_0] at c_1); (try simp only [mm_b_0] at c_5); (try simp only [mm_b_0] at c_6); (try simp only [mm_b_0] at c_7); (try simp only [mm_b_0] at c_11); simp [pn_one, mm_b, c_1, c_5, c_6, c_7, c_11]; done) | exact absurd (c_1.symm.trans c_5) (by decide) | exact absurd (c_1.symm.trans c_6) (by decide) | exact absurd (c_1.symm.trans c_7) (by decide) | exact absurd (c_1.symm.trans c_11) (by decide) | exact absurd (c_5.symm.trans c_6) (by decide) | exact absurd (c_5.symm.trans c_7) (by decide) | exact absurd (c_5.symm.trans c_11) (by decide) | exact absurd (c_6.symm.trans c_7) (by decide) | exact absurd (c_6.symm.trans c_11) (by decide) | exact absurd (c_7.symm.trans c_11) (by decide))).symm
            · skip
              refine lv_iconst (v := 1) hx hb dX2_named_46 (by decide) ?_
              refine lv_goto (tgt := 51) hx hb dX2_named_47 (by decide) ?_
              exact kk _ _ _ hM hS (show (mm_b b5 : Int32) = 1 from by (first | (rw [hb5]; (try simp only [mm_b_0] at c_1); (try simp only [mm_b_0] at c_5); (try simp only [mm_b_0] at c_6); (try simp only [mm_b_0] at c_7); (try simp only [mm_b_0] at c_11); simp [pn_one, mm_b, c_1, c_5, c_6, c_7, c_11]; done) | exact absurd (c_1.symm.trans c_5) (by decide) | exact absurd (c_1.symm.trans c_6) (by decide) | exact absurd (c_1.symm.trans c_7) (by decide) | exact absurd (c_1.symm.trans c_11) (by decide) | exact absurd (c_5.symm.trans c_6) (by decide) | exact absurd (c_5.symm.trans c_7) (by decide) | exact absurd (c_5.symm.trans c_11) (by decide) | exact absurd (c_6.symm.trans c_7) (by decide) | exact absurd (c_6.symm.trans c_11) (by decide) | exact absurd (c_7.symm.trans c_11) (by decide))).symm
          · skip
            refine lv_iload_n hx hb dX2_named_24 rfl (lv_at hl 1 rfl) ?_
            refine lv_bipush (v := 10) hx hb dX2_named_25 (by decide) ?_
            refine lv_icmp_eq (tgt := 36) hx hb dX2_named_27 (by decide) (fun c_8 => ?_) (fun c_8 => ?_)
            · skip
              refine lv_iload_n hx hb dX2_named_36 rfl (lv_at hl 2 rfl) ?_
              refine lv_iconst (v := 0) hx hb dX2_named_37 (by decide) ?_
              refine lv_bipush (v := 9) hx hb dX2_named_38 (by decide) ?_
              refine mm_callS (As := [.int wh, .int 0, .int 9]) (rest := []) ⟨hx, hb, hml, hown, hts⟩ hE hST hA (c_X2_in l Z) (va_cwS 3 hts (lw_S q2438 q2439 q54 q2440) rfl rfl rfl (by decide +kernel) ⟨(Nat.le_of_ble_eq_true rfl), (Nat.le_of_ble_eq_true rfl)⟩) hM hS rfl hl.1 (Nat.le_of_ble_eq_true rfl) dX2_named_40 rfl ⟨(Nat.le_of_ble_eq_true rfl), (Nat.le_of_ble_eq_true rfl)⟩ (fun _ _ _ _ _ _ h9 => h9.elim) (fun v_9 M_10 H locs hp_11 hM hS => ?_)
              obtain ⟨rfl, eM_10⟩ := hp_11
              rw [eM_10] at hM
              refine lv_if_eq (tgt := 50) hx hb dX2_named_43 (by decide) (fun c_12 => ?_) (fun c_12 => ?_)
              · skip
                refine lv_iconst (v := 0) hx hb dX2_named_50 (by decide) ?_
                exact kk _ _ _ hM hS (show (mm_b b5 : Int32) = 0 from by (first | (rw [hb5]; (try simp only [mm_b_0] at c_1); (try simp only [mm_b_0] at c_5); (try simp only [mm_b_0] at c_6); (try simp only [mm_b_0] at c_7); (try simp only [mm_b_0] at c_8); (try simp only [mm_b_0] at c_12); simp [pn_one, mm_b, c_1, c_5, c_6, c_7, c_8, c_12]; done) | exact absurd (c_1.symm.trans c_5) (by decide) | exact absurd (c_1.symm.trans c_6) (by decide) | exact absurd (c_1.symm.trans c_7) (by decide) | exact absurd (c_1.symm.trans c_8) (by decide) | exact absurd (c_1.symm.trans c_12) (by decide) | exact absurd (c_5.symm.trans c_6) (by decide) | exact absurd (c_5.symm.trans c_7) (by decide) | exact absurd (c_5.symm.trans c_8) (by decide) | exact absurd (c_5.symm.trans c_12) (by decide) | exact absurd (c_6.symm.trans c_7) (by decide) | exact absurd (c_6.symm.trans c_8) (by decide) | exact absurd (c_6.symm.trans c_12) (by decide) | exact absurd (c_7.symm.trans c_8) (by decide) | exact absurd (c_7.symm.trans c_12) (by decide) | exact absurd (c_8.symm.trans c_12) (by decide))).symm
              · skip
                refine lv_iconst (v := 1) hx hb dX2_named_46 (by decide) ?_
                refine lv_goto (tgt := 51) hx hb dX2_named_47 (by decide) ?_
                exact kk _ _ _ hM hS (show (mm_b b5 : Int32) = 1 from by (first | (rw [hb5]; (try simp only [mm_b_0] at c_1); (try simp only [mm_b_0] at c_5); (try simp only [mm_b_0] at c_6); (try simp only [mm_b_0] at c_7); (try simp only [mm_b_0] at c_8); (try simp only [mm_b_0] at c_12); simp [pn_one, mm_b, c_1, c_5, c_6, c_7, c_8, c_12]; done) | exact absurd (c_1.symm.trans c_5) (by decide) | exact absurd (c_1.symm.trans c_6) (by decide) | exact absurd (c_1.symm.trans c_7) (by decide) | exact absurd (c_1.symm.trans c_8) (by decide) | exact absurd (c_1.symm.trans c_12) (by decide) | exact absurd (c_5.symm.trans c_6) (by decide) | exact absurd (c_5.symm.trans c_7) (by decide) | exact absurd (c_5.symm.trans c_8) (by decide) | exact absurd (c_5.symm.trans c_12) (by decide) | exact absurd (c_6.symm.trans c_7) (by decide) | exact absurd (c_6.symm.trans c_8) (by decide) | exact absurd (c_6.symm.trans c_12) (by decide) | exact absurd (c_7.symm.trans c_8) (by decide) | exact absurd (c_7.symm.trans c_12) (by decide) | exact absurd (c_8.symm.trans c_12) (by decide))).symm
            · skip
              refine lv_iload_n hx hb dX2_named_30 rfl (lv_at hl 1 rfl) ?_
              refine lv_bipush (v := 16) hx hb dX2_named_31 (by decide) ?_
              refine lv_icmp_ne (tgt := 50) hx hb dX2_named_33 (by decide) (fun c_9 => ?_) (fun c_9 => ?_)
              · skip
                refine lv_iconst (v := 0) hx hb dX2_named_50 (by decide) ?_
                exact kk _ _ _ hM hS (show (mm_b b5 : Int32) = 0 from by (first | (rw [hb5]; (try simp only [mm_b_0] at c_1); (try simp only [mm_b_0] at c_5); (try simp only [mm_b_0] at c_6); (try simp only [mm_b_0] at c_7); (try simp only [mm_b_0] at c_8); (try simp only [mm_b_0] at c_9); simp [pn_one, mm_b, c_1, c_5, c_6, c_7, c_8, c_9]; done) | exact absurd (c_1.symm.trans c_5) (by decide) | exact absurd (c_1.symm.trans c_6) (by decide) | exact absurd (c_1.symm.trans c_7) (by decide) | exact absurd (c_1.symm.trans c_8) (by decide) | exact absurd (c_1.symm.trans c_9) (by decide) | exact absurd (c_5.symm.trans c_6) (by decide) | exact absurd (c_5.symm.trans c_7) (by decide) | exact absurd (c_5.symm.trans c_8) (by decide) | exact absurd (c_5.symm.trans c_9) (by decide) | exact absurd (c_6.symm.trans c_7) (by decide) | exact absurd (c_6.symm.trans c_8) (by decide) | exact absurd (c_6.symm.trans c_9) (by decide) | exact absurd (c_7.symm.trans c_8) (by decide) | exact absurd (c_7.symm.trans c_9) (by decide) | exact absurd (c_8.symm.trans c_9) (by decide))).symm
              · skip
                refine lv_iload_n hx hb dX2_named_36 rfl (lv_at hl 2 rfl) ?_
                refine lv_iconst (v := 0) hx hb dX2_named_37 (by decide) ?_
                refine lv_bipush (v := 9) hx hb dX2_named_38 (by decide) ?_
                refine mm_callS (As := [.int wh, .int 0, .int 9]) (rest := []) ⟨hx, hb, hml, hown, hts⟩ hE hST hA (c_X2_in l Z) (va_cwS 3 hts (lw_S q2438 q2439 q54 q2440) rfl rfl rfl (by decide +kernel) ⟨(Nat.le_of_ble_eq_true rfl), (Nat.le_of_ble_eq_true rfl)⟩) hM hS rfl hl.1 (Nat.le_of_ble_eq_true rfl) dX2_named_40 rfl ⟨(Nat.le_of_ble_eq_true rfl), (Nat.le_of_ble_eq_true rfl)⟩ (fun _ _ _ _ _ _ h9 => h9.elim) (fun v_10 M_11 H locs hp_12 hM hS => ?_)
                obtain ⟨rfl, eM_11⟩ := hp_12
                rw [eM_11] at hM
                refine lv_if_eq (tgt := 50) hx hb dX2_named_43 (by decide) (fun c_13 => ?_) (fun c_13 => ?_)
                · skip
                  refine lv_iconst (v := 0) hx hb dX2_named_50 (by decide) ?_
                  exact kk _ _ _ hM hS (show (mm_b b5 : Int32) = 0 from by (first | (rw [hb5]; (try simp only [mm_b_0] at c_1); (try simp only [mm_b_0] at c_5); (try simp only [mm_b_0] at c_6); (try simp only [mm_b_0] at c_7); (try simp only [mm_b_0] at c_8); (try simp only [mm_b_0] at c_9); (try simp only [mm_b_0] at c_13); simp [pn_one, mm_b, c_1, c_5, c_6, c_7, c_8, c_9, c_13]; done) | exact absurd (c_1.symm.trans c_5) (by decide) | exact absurd (c_1.symm.trans c_6) (by decide) | exact absurd (c_1.symm.trans c_7) (by decide) | exact absurd (c_1.symm.trans c_8) (by decide) | exact absurd (c_1.symm.trans c_9) (by decide) | exact absurd (c_1.symm.trans c_13) (by decide) | exact absurd (c_5.symm.trans c_6) (by decide) | exact absurd (c_5.symm.trans c_7) (by decide) | exact absurd (c_5.symm.trans c_8) (by decide) | exact absurd (c_5.symm.trans c_9) (by decide) | exact absurd (c_5.symm.trans c_13) (by decide) | exact absurd (c_6.symm.trans c_7) (by decide) | exact absurd (c_6.symm.trans c_8) (by decide) | exact absurd (c_6.symm.trans c_9) (by decide) | exact absurd (c_6.symm.trans c_13) (by decide) | exact absurd (c_7.symm.trans c_8) (by decide) | exact absurd (c_7.symm.trans c_9) (by decide) | exact absurd (c_7.symm.trans c_13) (by decide) | exact absurd (c_8.symm.trans c_9) (by decide) | exact absurd (c_8.symm.trans c_13) (by decide) | exact absurd (c_9.symm.trans c_13) (by decide))).symm
                · skip
                  refine lv_iconst (v := 1) hx hb dX2_named_46 (by decide) ?_
                  refine lv_goto (tgt := 51) hx hb dX2_named_47 (by decide) ?_
                  exact kk _ _ _ hM hS (show (mm_b b5 : Int32) = 1 from by (first | (rw [hb5]; (try simp only [mm_b_0] at c_1); (try simp only [mm_b_0] at c_5); (try simp only [mm_b_0] at c_6); (try simp only [mm_b_0] at c_7); (try simp only [mm_b_0] at c_8); (try simp only [mm_b_0] at c_9); (try simp only [mm_b_0] at c_13); simp [pn_one, mm_b, c_1, c_5, c_6, c_7, c_8, c_9, c_13]; done) | exact absurd (c_1.symm.trans c_5) (by decide) | exact absurd (c_1.symm.trans c_6) (by decide) | exact absurd (c_1.symm.trans c_7) (by decide) | exact absurd (c_1.symm.trans c_8) (by decide) | exact absurd (c_1.symm.trans c_9) (by decide) | exact absurd (c_1.symm.trans c_13) (by decide) | exact absurd (c_5.symm.trans c_6) (by decide) | exact absurd (c_5.symm.trans c_7) (by decide) | exact absurd (c_5.symm.trans c_8) (by decide) | exact absurd (c_5.symm.trans c_9) (by decide) | exact absurd (c_5.symm.trans c_13) (by decide) | exact absurd (c_6.symm.trans c_7) (by decide) | exact absurd (c_6.symm.trans c_8) (by decide) | exact absurd (c_6.symm.trans c_9) (by decide) | exact absurd (c_6.symm.trans c_13) (by decide) | exact absurd (c_7.symm.trans c_8) (by decide) | exact absurd (c_7.symm.trans c_9) (by decide) | exact absurd (c_7.symm.trans c_13) (by decide) | exact absurd (c_8.symm.trans c_9) (by decide) | exact absurd (c_8.symm.trans c_13) (by decide) | exact absurd (c_9.symm.trans c_13) (by decide))).symm
  refine lv_istore hx hb dX2_named_51 hl (by decide) rfl (fun ls hl => ?_)
  replace hl : lv_has ls 8 [(5, .int (mm_b b5)), (0, .ref a), (1, .int kd), (2, .int wh), (3, .int i1), (4, .int i2)] := hl
  refine lv_iload hx hb dX2_named_53 (lv_at hl 0 rfl) ?_
  cases b5
  · skip
    cases t2
    · skip
      refine lv_if_eq (tgt := 86) hx hb dX2_named_55 (by decide) (fun _ => ?_) (fun h9 => absurd (by decide) h9)
      refine lv_iconst (v := 0) hx hb dX2_named_86 (by decide) ?_
      refine lv_istore hx hb dX2_named_87 hl (by decide) rfl (fun ls hl => ?_)
      replace hl : lv_has ls 8 [(6, .int 0), (5, .int (mm_b false)), (0, .ref a), (1, .int kd), (2, .int wh), (3, .int i1), (4, .int i2)] := hl
      refine lv_iload_n hx hb dX2_named_89 rfl (lv_at hl 3 rfl) ?_
      refine mm_callS (As := [.int kd]) (rest := []) ⟨hx, hb, hml, hown, hts⟩ hE hST hA (c_X2_isOfTwo_b l Z) (va_cwS 1 hts (lw_S q2457 q2458 q54 q2459) rfl rfl rfl (by decide +kernel) ⟨(Nat.le_of_ble_eq_true rfl), (Nat.le_of_ble_eq_true rfl)⟩) hM hS rfl hl.1 (Nat.le_of_ble_eq_true rfl) dX2_named_90 rfl ⟨(Nat.le_of_ble_eq_true rfl), (Nat.le_of_ble_eq_true rfl)⟩ (fun _ _ _ _ _ _ h9 => h9.elim) (fun v_1 M_2 H locs hp_3 hM hS => ?_)
      obtain ⟨rfl, eM_2⟩ := hp_3
      rw [eM_2] at hM
      rw [show (mm_b (pn_two kd) : Int32) = mm_b false from by rw [← ht2]]
      refine lv_if_eq (tgt := 101) hx hb dX2_named_93 (by decide) (fun _ => ?_) (fun h9 => absurd (by decide) h9)
      refine lv_iconst (v := -1) hx hb dX2_named_101 (by decide) ?_
      refine lv_istore hx hb dX2_named_102 hl (by decide) rfl (fun ls hl => ?_)
      replace hl : lv_has ls 8 [(7, .int (-1)), (6, .int 0), (5, .int (mm_b false)), (0, .ref a), (1, .int kd), (2, .int wh), (3, .int i1), (4, .int i2)] := hl
      refine lv_aload_n hx hb dX2_named_104 rfl (lv_at hl 3 rfl) ?_
      refine lv_iload hx hb dX2_named_105 (lv_at hl 2 rfl) ?_
      refine lv_iload hx hb dX2_named_107 (lv_at hl 1 rfl) ?_
      refine lv_iload hx hb dX2_named_109 (lv_at hl 1 rfl) ?_
      refine lv_if_eq (tgt := 146) hx hb dX2_named_111 (by decide) (fun _ => ?_) (fun h9 => absurd (by decide) h9)
      refine lv_iconst (v := 0) hx hb dX2_named_146 (by decide) ?_
      refine mm_callV (As := [.int (mm_b false), .int (mm_b false), .int (mm_b false)]) (rest := []) ⟨hx, hb, hml, hown, hts⟩ hE hST hA (c_X2_goes l Z (b1 := false) (b2 := false) (b3 := false) hm9) (cwV 3 hts (lw_V q2441 q2443 qs28 q54 q2444) rfl rfl rfl (by decide +kernel) ⟨(Nat.le_of_ble_eq_true rfl), (Nat.le_of_ble_eq_true rfl)⟩) hM hS mm_cX2 hm9 rfl hl.1 (Nat.le_of_ble_eq_true rfl) dX2_named_147 rfl ⟨(Nat.le_of_ble_eq_true rfl), (Nat.le_of_ble_eq_true rfl)⟩ (fun _ _ _ _ _ _ h9 => h9.elim) (fun v_4 M_5 H locs hp_6 hM hS => ?_)
      obtain ⟨rfl, e0M_5⟩ := hp_6
      have eM_5 : M_5 = mm_U M a (.inr (1, [.int (nI T.length), .ref kd', .ref wh', .ref f1, .ref f2, .ref f3, .ref wg, .int ea, .int sp, va_rf rt, .int 1, .int ak, .int wr, .ref pl, .int tk, .int (mm_b fa), .long st])) := e0M_5
      rw [eM_5] at hM
      have hc_7 : (mm_U M a (.inr (1, [.int (nI T.length), .ref kd', .ref wh', .ref f1, .ref f2, .ref f3, .ref wg, .int ea, .int sp, va_rf rt, .int 1, .int ak, .int wr, .ref pl, .int tk, .int (mm_b fa), .long st]))) a = some (.inr (1, [.int (nI T.length), .ref kd', .ref wh', .ref f1, .ref f2, .ref f3, .ref wg, .int ea, .int sp, va_rf rt, .int 1, .int ak, .int wr, .ref pl, .int tk, .int (mm_b fa), .long st])) := mm_U_eq
      obtain ⟨M_8, eM_8⟩ : ∃ z, z = mm_U M a (.inr (1, [.int (nI T.length), .ref kd', .ref wh', .ref f1, .ref f2, .ref f3, .ref wg, .int ea, .int sp, va_rf rt, .int 1, .int ak, .int wr, .ref pl, .int tk, .int (mm_b fa), .long st])) := ⟨_, rfl⟩
      rw [← eM_8] at hM hc_7
      refine lv_if_eq (tgt := 166) hx hb dX2_named_150 (by decide) (fun _ => ?_) (fun h9 => absurd (by decide) h9)
      have hA8 : md_A Z M_8 kd' wh' f1 f2 f3 wg pl T := by rw [eM_8]; exact hA9.U hm9
      have hfr : ∀ q : Nat, q ≠ a → M_8 q = M q := fun q h1 => by rw [eM_8]; exact mm_U_ne h1
      refine lv_iconst (v := 0) hx hb dX2_named_166 (by decide) ?_
      exact mm_reti hx hb hr hlk hM hS (Or.inr ⟨rfl, ⟨1, hc_7, Or.inl ⟨hb5.symm, rfl⟩⟩, hA8, fun q h1 _ => hfr q h1⟩) dX2_named_167 (Nat.le_of_ble_eq_true rfl) (Nat.le_of_ble_eq_true rfl)
    · skip
      refine lv_if_eq (tgt := 86) hx hb dX2_named_55 (by decide) (fun _ => ?_) (fun h9 => absurd (by decide) h9)
      refine lv_iconst (v := 0) hx hb dX2_named_86 (by decide) ?_
      refine lv_istore hx hb dX2_named_87 hl (by decide) rfl (fun ls hl => ?_)
      replace hl : lv_has ls 8 [(6, .int 0), (5, .int (mm_b false)), (0, .ref a), (1, .int kd), (2, .int wh), (3, .int i1), (4, .int i2)] := hl
      refine lv_iload_n hx hb dX2_named_89 rfl (lv_at hl 3 rfl) ?_
      refine mm_callS (As := [.int kd]) (rest := []) ⟨hx, hb, hml, hown, hts⟩ hE hST hA (c_X2_isOfTwo_b l Z) (va_cwS 1 hts (lw_S q2457 q2458 q54 q2459) rfl rfl rfl (by decide +kernel) ⟨(Nat.le_of_ble_eq_true rfl), (Nat.le_of_ble_eq_true rfl)⟩) hM hS rfl hl.1 (Nat.le_of_ble_eq_true rfl) dX2_named_90 rfl ⟨(Nat.le_of_ble_eq_true rfl), (Nat.le_of_ble_eq_true rfl)⟩ (fun _ _ _ _ _ _ h9 => h9.elim) (fun v_1 M_2 H locs hp_3 hM hS => ?_)
      obtain ⟨rfl, eM_2⟩ := hp_3
      rw [eM_2] at hM
      rw [show (mm_b (pn_two kd) : Int32) = mm_b true from by rw [← ht2]]
      refine lv_if_eq (tgt := 101) hx hb dX2_named_93 (by decide) (fun h9 => absurd h9 (by decide)) (fun _ => ?_)
      refine lv_iload hx hb dX2_named_96 (lv_at hl 6 rfl) ?_
      refine lv_goto (tgt := 102) hx hb dX2_named_98 (by decide) ?_
      refine lv_istore hx hb dX2_named_102 hl (by decide) rfl (fun ls hl => ?_)
      replace hl : lv_has ls 8 [(7, .int i2), (6, .int 0), (5, .int (mm_b false)), (0, .ref a), (1, .int kd), (2, .int wh), (3, .int i1), (4, .int i2)] := hl
      refine lv_aload_n hx hb dX2_named_104 rfl (lv_at hl 3 rfl) ?_
      refine lv_iload hx hb dX2_named_105 (lv_at hl 2 rfl) ?_
      refine lv_iload hx hb dX2_named_107 (lv_at hl 1 rfl) ?_
      refine lv_iload hx hb dX2_named_109 (lv_at hl 1 rfl) ?_
      refine lv_if_eq (tgt := 146) hx hb dX2_named_111 (by decide) (fun _ => ?_) (fun h9 => absurd (by decide) h9)
      refine lv_iconst (v := 0) hx hb dX2_named_146 (by decide) ?_
      refine mm_callV (As := [.int (mm_b false), .int (mm_b false), .int (mm_b false)]) (rest := []) ⟨hx, hb, hml, hown, hts⟩ hE hST hA (c_X2_goes l Z (b1 := false) (b2 := false) (b3 := false) hm9) (cwV 3 hts (lw_V q2441 q2443 qs28 q54 q2444) rfl rfl rfl (by decide +kernel) ⟨(Nat.le_of_ble_eq_true rfl), (Nat.le_of_ble_eq_true rfl)⟩) hM hS mm_cX2 hm9 rfl hl.1 (Nat.le_of_ble_eq_true rfl) dX2_named_147 rfl ⟨(Nat.le_of_ble_eq_true rfl), (Nat.le_of_ble_eq_true rfl)⟩ (fun _ _ _ _ _ _ h9 => h9.elim) (fun v_4 M_5 H locs hp_6 hM hS => ?_)
      obtain ⟨rfl, e0M_5⟩ := hp_6
      have eM_5 : M_5 = mm_U M a (.inr (1, [.int (nI T.length), .ref kd', .ref wh', .ref f1, .ref f2, .ref f3, .ref wg, .int ea, .int sp, va_rf rt, .int 1, .int ak, .int wr, .ref pl, .int tk, .int (mm_b fa), .long st])) := e0M_5
      rw [eM_5] at hM
      have hc_7 : (mm_U M a (.inr (1, [.int (nI T.length), .ref kd', .ref wh', .ref f1, .ref f2, .ref f3, .ref wg, .int ea, .int sp, va_rf rt, .int 1, .int ak, .int wr, .ref pl, .int tk, .int (mm_b fa), .long st]))) a = some (.inr (1, [.int (nI T.length), .ref kd', .ref wh', .ref f1, .ref f2, .ref f3, .ref wg, .int ea, .int sp, va_rf rt, .int 1, .int ak, .int wr, .ref pl, .int tk, .int (mm_b fa), .long st])) := mm_U_eq
      obtain ⟨M_8, eM_8⟩ : ∃ z, z = mm_U M a (.inr (1, [.int (nI T.length), .ref kd', .ref wh', .ref f1, .ref f2, .ref f3, .ref wg, .int ea, .int sp, va_rf rt, .int 1, .int ak, .int wr, .ref pl, .int tk, .int (mm_b fa), .long st])) := ⟨_, rfl⟩
      rw [← eM_8] at hM hc_7
      refine lv_if_eq (tgt := 166) hx hb dX2_named_150 (by decide) (fun _ => ?_) (fun h9 => absurd (by decide) h9)
      have hA8 : md_A Z M_8 kd' wh' f1 f2 f3 wg pl T := by rw [eM_8]; exact hA9.U hm9
      have hfr : ∀ q : Nat, q ≠ a → M_8 q = M q := fun q h1 => by rw [eM_8]; exact mm_U_ne h1
      refine lv_iconst (v := 0) hx hb dX2_named_166 (by decide) ?_
      exact mm_reti hx hb hr hlk hM hS (Or.inr ⟨rfl, ⟨1, hc_7, Or.inl ⟨hb5.symm, rfl⟩⟩, hA8, fun q h1 _ => hfr q h1⟩) dX2_named_167 (Nat.le_of_ble_eq_true rfl) (Nat.le_of_ble_eq_true rfl)
  · skip
    have h17 : kd ≠ 17 := by intro h9; rw [h9] at hb5; simp [pn_two, pn_one] at hb5
    refine lv_if_eq (tgt := 86) hx hb dX2_named_55 (by decide) (fun h9 => absurd h9 (by decide)) (fun _ => ?_)
    refine lv_aload_n hx hb dX2_named_58 rfl (lv_at hl 1 rfl) ?_
    refine lv_iload_n hx hb dX2_named_59 rfl (lv_at hl 4 rfl) ?_
    refine mm_callV (As := [.int i1]) (rest := []) ⟨hx, hb, hml, hown, hts⟩ hE hST hA (c_X2_isOne l Z hm9 hA9) (cwV 1 hts (lw_V q2460 q2462 qs31 q54 q2463) rfl rfl rfl (by decide +kernel) ⟨(Nat.le_of_ble_eq_true rfl), (Nat.le_of_ble_eq_true rfl)⟩) hM hS mm_cX2 hm9 rfl hl.1 (Nat.le_of_ble_eq_true rfl) dX2_named_60 rfl ⟨(Nat.le_of_ble_eq_true rfl), (Nat.le_of_ble_eq_true rfl)⟩ (fun _ _ _ _ _ _ h9 => h9.elim) (fun v_1 M_2 H locs hp_3 hM hS => ?_)
    obtain ⟨rfl, eM_2⟩ := hp_3
    rw [eM_2] at hM
    rw [show (mm_b (pt_is T false i1) : Int32) = mm_b p1 from by rw [hp1]]
    cases p1
    · skip
      refine lv_if_eq (tgt := 86) hx hb dX2_named_63 (by decide) (fun _ => ?_) (fun h9 => absurd (by decide) h9)
      cases t2
      · skip
        refine lv_iconst (v := 0) hx hb dX2_named_86 (by decide) ?_
        refine lv_istore hx hb dX2_named_87 hl (by decide) rfl (fun ls hl => ?_)
        replace hl : lv_has ls 8 [(6, .int 0), (5, .int (mm_b true)), (0, .ref a), (1, .int kd), (2, .int wh), (3, .int i1), (4, .int i2)] := hl
        refine lv_iload_n hx hb dX2_named_89 rfl (lv_at hl 3 rfl) ?_
        refine mm_callS (As := [.int kd]) (rest := []) ⟨hx, hb, hml, hown, hts⟩ hE hST hA (c_X2_isOfTwo_b l Z) (va_cwS 1 hts (lw_S q2457 q2458 q54 q2459) rfl rfl rfl (by decide +kernel) ⟨(Nat.le_of_ble_eq_true rfl), (Nat.le_of_ble_eq_true rfl)⟩) hM hS rfl hl.1 (Nat.le_of_ble_eq_true rfl) dX2_named_90 rfl ⟨(Nat.le_of_ble_eq_true rfl), (Nat.le_of_ble_eq_true rfl)⟩ (fun _ _ _ _ _ _ h9 => h9.elim) (fun v_4 M_5 H locs hp_6 hM hS => ?_)
        obtain ⟨rfl, eM_5⟩ := hp_6
        rw [eM_5] at hM
        rw [show (mm_b (pn_two kd) : Int32) = mm_b false from by rw [← ht2]]
        refine lv_if_eq (tgt := 101) hx hb dX2_named_93 (by decide) (fun _ => ?_) (fun h9 => absurd (by decide) h9)
        refine lv_iconst (v := -1) hx hb dX2_named_101 (by decide) ?_
        refine lv_istore hx hb dX2_named_102 hl (by decide) rfl (fun ls hl => ?_)
        replace hl : lv_has ls 8 [(7, .int (-1)), (6, .int 0), (5, .int (mm_b true)), (0, .ref a), (1, .int kd), (2, .int wh), (3, .int i1), (4, .int i2)] := hl
        refine lv_aload_n hx hb dX2_named_104 rfl (lv_at hl 3 rfl) ?_
        refine lv_iload hx hb dX2_named_105 (lv_at hl 2 rfl) ?_
        refine lv_iload hx hb dX2_named_107 (lv_at hl 1 rfl) ?_
        refine lv_iload hx hb dX2_named_109 (lv_at hl 1 rfl) ?_
        refine lv_if_eq (tgt := 146) hx hb dX2_named_111 (by decide) (fun _ => ?_) (fun h9 => absurd (by decide) h9)
        refine lv_iconst (v := 0) hx hb dX2_named_146 (by decide) ?_
        refine mm_callV (As := [.int (mm_b true), .int (mm_b false), .int (mm_b false)]) (rest := []) ⟨hx, hb, hml, hown, hts⟩ hE hST hA (c_X2_goes l Z (b1 := true) (b2 := false) (b3 := false) hm9) (cwV 3 hts (lw_V q2441 q2443 qs28 q54 q2444) rfl rfl rfl (by decide +kernel) ⟨(Nat.le_of_ble_eq_true rfl), (Nat.le_of_ble_eq_true rfl)⟩) hM hS mm_cX2 hm9 rfl hl.1 (Nat.le_of_ble_eq_true rfl) dX2_named_147 rfl ⟨(Nat.le_of_ble_eq_true rfl), (Nat.le_of_ble_eq_true rfl)⟩ (fun _ _ _ _ _ _ h9 => h9.elim) (fun v_7 M_8 H locs hp_9 hM hS => ?_)
        obtain ⟨rfl, e0M_8⟩ := hp_9
        have eM_8 : M_8 = mm_U M a (.inr (1, [.int (nI T.length), .ref kd', .ref wh', .ref f1, .ref f2, .ref f3, .ref wg, .int ea, .int sp, va_rf rt, .int 2, .int ak, .int wr, .ref pl, .int tk, .int (mm_b fa), .long st])) := e0M_8
        rw [eM_8] at hM
        have hc_10 : (mm_U M a (.inr (1, [.int (nI T.length), .ref kd', .ref wh', .ref f1, .ref f2, .ref f3, .ref wg, .int ea, .int sp, va_rf rt, .int 2, .int ak, .int wr, .ref pl, .int tk, .int (mm_b fa), .long st]))) a = some (.inr (1, [.int (nI T.length), .ref kd', .ref wh', .ref f1, .ref f2, .ref f3, .ref wg, .int ea, .int sp, va_rf rt, .int 2, .int ak, .int wr, .ref pl, .int tk, .int (mm_b fa), .long st])) := mm_U_eq
        obtain ⟨M_11, eM_11⟩ : ∃ z, z = mm_U M a (.inr (1, [.int (nI T.length), .ref kd', .ref wh', .ref f1, .ref f2, .ref f3, .ref wg, .int ea, .int sp, va_rf rt, .int 2, .int ak, .int wr, .ref pl, .int tk, .int (mm_b fa), .long st])) := ⟨_, rfl⟩
        rw [← eM_11] at hM hc_10
        refine lv_if_eq (tgt := 166) hx hb dX2_named_150 (by decide) (fun _ => ?_) (fun h9 => absurd (by decide) h9)
        have hA8 : md_A Z M_11 kd' wh' f1 f2 f3 wg pl T := by rw [eM_11]; exact hA9.U hm9
        have hfr : ∀ q : Nat, q ≠ a → M_11 q = M q := fun q h1 => by rw [eM_11]; exact mm_U_ne h1
        refine lv_iconst (v := 0) hx hb dX2_named_166 (by decide) ?_
        exact mm_reti hx hb hr hlk hM hS (Or.inr ⟨rfl, ⟨2, hc_10, (Or.inr (Or.inl ⟨hb5.symm, fun ps hps => (by obtain ⟨t9, h6⟩ := pn_hd (pn_two kd) i1 i2; rw [h6] at hps; have h9 := pt_is_iff.2 (pt_p_1 hps); rw [← hp1] at h9; cases h9), rfl⟩))⟩, hA8, fun q h1 _ => hfr q h1⟩) dX2_named_167 (Nat.le_of_ble_eq_true rfl) (Nat.le_of_ble_eq_true rfl)
      · skip
        refine lv_iconst (v := 0) hx hb dX2_named_86 (by decide) ?_
        refine lv_istore hx hb dX2_named_87 hl (by decide) rfl (fun ls hl => ?_)
        replace hl : lv_has ls 8 [(6, .int 0), (5, .int (mm_b true)), (0, .ref a), (1, .int kd), (2, .int wh), (3, .int i1), (4, .int i2)] := hl
        refine lv_iload_n hx hb dX2_named_89 rfl (lv_at hl 3 rfl) ?_
        refine mm_callS (As := [.int kd]) (rest := []) ⟨hx, hb, hml, hown, hts⟩ hE hST hA (c_X2_isOfTwo_b l Z) (va_cwS 1 hts (lw_S q2457 q2458 q54 q2459) rfl rfl rfl (by decide +kernel) ⟨(Nat.le_of_ble_eq_true rfl), (Nat.le_of_ble_eq_true rfl)⟩) hM hS rfl hl.1 (Nat.le_of_ble_eq_true rfl) dX2_named_90 rfl ⟨(Nat.le_of_ble_eq_true rfl), (Nat.le_of_ble_eq_true rfl)⟩ (fun _ _ _ _ _ _ h9 => h9.elim) (fun v_4 M_5 H locs hp_6 hM hS => ?_)
        obtain ⟨rfl, eM_5⟩ := hp_6
        rw [eM_5] at hM
        rw [show (mm_b (pn_two kd) : Int32) = mm_b true from by rw [← ht2]]
        refine lv_if_eq (tgt := 101) hx hb dX2_named_93 (by decide) (fun h9 => absurd h9 (by decide)) (fun _ => ?_)
        refine lv_iload hx hb dX2_named_96 (lv_at hl 6 rfl) ?_
        refine lv_goto (tgt := 102) hx hb dX2_named_98 (by decide) ?_
        refine lv_istore hx hb dX2_named_102 hl (by decide) rfl (fun ls hl => ?_)
        replace hl : lv_has ls 8 [(7, .int i2), (6, .int 0), (5, .int (mm_b true)), (0, .ref a), (1, .int kd), (2, .int wh), (3, .int i1), (4, .int i2)] := hl
        refine lv_aload_n hx hb dX2_named_104 rfl (lv_at hl 3 rfl) ?_
        refine lv_iload hx hb dX2_named_105 (lv_at hl 2 rfl) ?_
        refine lv_iload hx hb dX2_named_107 (lv_at hl 1 rfl) ?_
        refine lv_iload hx hb dX2_named_109 (lv_at hl 1 rfl) ?_
        refine lv_if_eq (tgt := 146) hx hb dX2_named_111 (by decide) (fun _ => ?_) (fun h9 => absurd (by decide) h9)
        refine lv_iconst (v := 0) hx hb dX2_named_146 (by decide) ?_
        refine mm_callV (As := [.int (mm_b true), .int (mm_b false), .int (mm_b false)]) (rest := []) ⟨hx, hb, hml, hown, hts⟩ hE hST hA (c_X2_goes l Z (b1 := true) (b2 := false) (b3 := false) hm9) (cwV 3 hts (lw_V q2441 q2443 qs28 q54 q2444) rfl rfl rfl (by decide +kernel) ⟨(Nat.le_of_ble_eq_true rfl), (Nat.le_of_ble_eq_true rfl)⟩) hM hS mm_cX2 hm9 rfl hl.1 (Nat.le_of_ble_eq_true rfl) dX2_named_147 rfl ⟨(Nat.le_of_ble_eq_true rfl), (Nat.le_of_ble_eq_true rfl)⟩ (fun _ _ _ _ _ _ h9 => h9.elim) (fun v_7 M_8 H locs hp_9 hM hS => ?_)
        obtain ⟨rfl, e0M_8⟩ := hp_9
        have eM_8 : M_8 = mm_U M a (.inr (1, [.int (nI T.length), .ref kd', .ref wh', .ref f1, .ref f2, .ref f3, .ref wg, .int ea, .int sp, va_rf rt, .int 2, .int ak, .int wr, .ref pl, .int tk, .int (mm_b fa), .long st])) := e0M_8
        rw [eM_8] at hM
        have hc_10 : (mm_U M a (.inr (1, [.int (nI T.length), .ref kd', .ref wh', .ref f1, .ref f2, .ref f3, .ref wg, .int ea, .int sp, va_rf rt, .int 2, .int ak, .int wr, .ref pl, .int tk, .int (mm_b fa), .long st]))) a = some (.inr (1, [.int (nI T.length), .ref kd', .ref wh', .ref f1, .ref f2, .ref f3, .ref wg, .int ea, .int sp, va_rf rt, .int 2, .int ak, .int wr, .ref pl, .int tk, .int (mm_b fa), .long st])) := mm_U_eq
        obtain ⟨M_11, eM_11⟩ : ∃ z, z = mm_U M a (.inr (1, [.int (nI T.length), .ref kd', .ref wh', .ref f1, .ref f2, .ref f3, .ref wg, .int ea, .int sp, va_rf rt, .int 2, .int ak, .int wr, .ref pl, .int tk, .int (mm_b fa), .long st])) := ⟨_, rfl⟩
        rw [← eM_11] at hM hc_10
        refine lv_if_eq (tgt := 166) hx hb dX2_named_150 (by decide) (fun _ => ?_) (fun h9 => absurd (by decide) h9)
        have hA8 : md_A Z M_11 kd' wh' f1 f2 f3 wg pl T := by rw [eM_11]; exact hA9.U hm9
        have hfr : ∀ q : Nat, q ≠ a → M_11 q = M q := fun q h1 => by rw [eM_11]; exact mm_U_ne h1
        refine lv_iconst (v := 0) hx hb dX2_named_166 (by decide) ?_
        exact mm_reti hx hb hr hlk hM hS (Or.inr ⟨rfl, ⟨2, hc_10, (Or.inr (Or.inl ⟨hb5.symm, fun ps hps => (by obtain ⟨t9, h6⟩ := pn_hd (pn_two kd) i1 i2; rw [h6] at hps; have h9 := pt_is_iff.2 (pt_p_1 hps); rw [← hp1] at h9; cases h9), rfl⟩))⟩, hA8, fun q h1 _ => hfr q h1⟩) dX2_named_167 (Nat.le_of_ble_eq_true rfl) (Nat.le_of_ble_eq_true rfl)
    · skip
      refine lv_if_eq (tgt := 86) hx hb dX2_named_63 (by decide) (fun h9 => absurd h9 (by decide)) (fun _ => ?_)
      obtain ⟨k1, hk1, rfl, hd1⟩ := pt_is_iff.1 hp1.symm
      cases t2
      · skip
        refine lv_iload_n hx hb dX2_named_66 rfl (lv_at hl 2 rfl) ?_
        refine mm_callS (As := [.int kd]) (rest := []) ⟨hx, hb, hml, hown, hts⟩ hE hST hA (c_X2_isOfTwo_b l Z) (va_cwS 1 hts (lw_S q2457 q2458 q54 q2459) rfl rfl rfl (by decide +kernel) ⟨(Nat.le_of_ble_eq_true rfl), (Nat.le_of_ble_eq_true rfl)⟩) hM hS rfl hl.1 (Nat.le_of_ble_eq_true rfl) dX2_named_67 rfl ⟨(Nat.le_of_ble_eq_true rfl), (Nat.le_of_ble_eq_true rfl)⟩ (fun _ _ _ _ _ _ h9 => h9.elim) (fun v_4 M_5 H locs hp_6 hM hS => ?_)
        obtain ⟨rfl, eM_5⟩ := hp_6
        rw [eM_5] at hM
        rw [show (mm_b (pn_two kd) : Int32) = mm_b false from by rw [← ht2]]
        refine lv_if_eq (tgt := 82) hx hb dX2_named_70 (by decide) (fun _ => ?_) (fun h9 => absurd (by decide) h9)
        refine lv_iconst (v := 1) hx hb dX2_named_82 (by decide) ?_
        refine lv_goto (tgt := 87) hx hb dX2_named_83 (by decide) ?_
        refine lv_istore hx hb dX2_named_87 hl (by decide) rfl (fun ls hl => ?_)
        replace hl : lv_has ls 8 [(6, .int 1), (5, .int (mm_b true)), (0, .ref a), (1, .int kd), (2, .int wh), (3, .int (nI k1)), (4, .int i2)] := hl
        refine lv_iload_n hx hb dX2_named_89 rfl (lv_at hl 3 rfl) ?_
        refine mm_callS (As := [.int kd]) (rest := []) ⟨hx, hb, hml, hown, hts⟩ hE hST hA (c_X2_isOfTwo_b l Z) (va_cwS 1 hts (lw_S q2457 q2458 q54 q2459) rfl rfl rfl (by decide +kernel) ⟨(Nat.le_of_ble_eq_true rfl), (Nat.le_of_ble_eq_true rfl)⟩) hM hS rfl hl.1 (Nat.le_of_ble_eq_true rfl) dX2_named_90 rfl ⟨(Nat.le_of_ble_eq_true rfl), (Nat.le_of_ble_eq_true rfl)⟩ (fun _ _ _ _ _ _ h9 => h9.elim) (fun v_7 M_8 H locs hp_9 hM hS => ?_)
        obtain ⟨rfl, eM_8⟩ := hp_9
        rw [eM_8] at hM
        rw [show (mm_b (pn_two kd) : Int32) = mm_b false from by rw [← ht2]]
        refine lv_if_eq (tgt := 101) hx hb dX2_named_93 (by decide) (fun _ => ?_) (fun h9 => absurd (by decide) h9)
        refine lv_iconst (v := -1) hx hb dX2_named_101 (by decide) ?_
        refine lv_istore hx hb dX2_named_102 hl (by decide) rfl (fun ls hl => ?_)
        replace hl : lv_has ls 8 [(7, .int (-1)), (6, .int 1), (5, .int (mm_b true)), (0, .ref a), (1, .int kd), (2, .int wh), (3, .int (nI k1)), (4, .int i2)] := hl
        refine lv_aload_n hx hb dX2_named_104 rfl (lv_at hl 3 rfl) ?_
        refine lv_iload hx hb dX2_named_105 (lv_at hl 2 rfl) ?_
        refine lv_iload hx hb dX2_named_107 (lv_at hl 1 rfl) ?_
        refine lv_iload hx hb dX2_named_109 (lv_at hl 1 rfl) ?_
        refine lv_if_eq (tgt := 146) hx hb dX2_named_111 (by decide) (fun h9 => absurd h9 (by decide)) (fun _ => ?_)
        refine lv_aload_n hx hb dX2_named_114 rfl (lv_at hl 3 rfl) ?_
        refine va_get (D := Z.1) (ci := 1) (v := .int (nI T.length)) (C := RX2) (T := TX2) (N := 17) hx hb hts in_X2 hown hE.1 (hM.at hm9) 0 rfl mm_cX2 0 (by decide) (hts _ q2378) (fun _ h9 => h9) rfl dX2_named_115 ?_
        refine lv_bipush (v := 120) hx hb dX2_named_118 (by decide) ?_
        refine lv_icmp_ge (tgt := 146) hx hb dX2_named_120 (by decide) (fun c_10 => ?_) (fun c_10 => ?_)
        · skip
          refine lv_iconst (v := 0) hx hb dX2_named_146 (by decide) ?_
          refine mm_callV (As := [.int (mm_b true), .int (mm_b true), .int (mm_b false)]) (rest := []) ⟨hx, hb, hml, hown, hts⟩ hE hST hA (c_X2_goes l Z (b1 := true) (b2 := true) (b3 := false) hm9) (cwV 3 hts (lw_V q2441 q2443 qs28 q54 q2444) rfl rfl rfl (by decide +kernel) ⟨(Nat.le_of_ble_eq_true rfl), (Nat.le_of_ble_eq_true rfl)⟩) hM hS mm_cX2 hm9 rfl hl.1 (Nat.le_of_ble_eq_true rfl) dX2_named_147 rfl ⟨(Nat.le_of_ble_eq_true rfl), (Nat.le_of_ble_eq_true rfl)⟩ (fun _ _ _ _ _ _ h9 => h9.elim) (fun v_11 M_12 H locs hp_13 hM hS => ?_)
          obtain ⟨rfl, e0M_12⟩ := hp_13
          have eM_12 : M_12 = mm_U M a (.inr (1, [.int (nI T.length), .ref kd', .ref wh', .ref f1, .ref f2, .ref f3, .ref wg, .int ea, .int sp, va_rf rt, .int 3, .int ak, .int wr, .ref pl, .int tk, .int (mm_b fa), .long st])) := e0M_12
          rw [eM_12] at hM
          have hc_14 : (mm_U M a (.inr (1, [.int (nI T.length), .ref kd', .ref wh', .ref f1, .ref f2, .ref f3, .ref wg, .int ea, .int sp, va_rf rt, .int 3, .int ak, .int wr, .ref pl, .int tk, .int (mm_b fa), .long st]))) a = some (.inr (1, [.int (nI T.length), .ref kd', .ref wh', .ref f1, .ref f2, .ref f3, .ref wg, .int ea, .int sp, va_rf rt, .int 3, .int ak, .int wr, .ref pl, .int tk, .int (mm_b fa), .long st])) := mm_U_eq
          obtain ⟨M_15, eM_15⟩ : ∃ z, z = mm_U M a (.inr (1, [.int (nI T.length), .ref kd', .ref wh', .ref f1, .ref f2, .ref f3, .ref wg, .int ea, .int sp, va_rf rt, .int 3, .int ak, .int wr, .ref pl, .int tk, .int (mm_b fa), .long st])) := ⟨_, rfl⟩
          rw [← eM_15] at hM hc_14
          refine lv_if_eq (tgt := 166) hx hb dX2_named_150 (by decide) (fun _ => ?_) (fun h9 => absurd (by decide) h9)
          have hA8 : md_A Z M_15 kd' wh' f1 f2 f3 wg pl T := by rw [eM_15]; exact hA9.U hm9
          have hfr : ∀ q : Nat, q ≠ a → M_15 q = M q := fun q h1 => by rw [eM_15]; exact mm_U_ne h1
          refine lv_iconst (v := 0) hx hb dX2_named_166 (by decide) ?_
          exact mm_reti hx hb hr hlk hM hS (Or.inr ⟨rfl, ⟨3, hc_14, (Or.inr (Or.inr ⟨hb5.symm, [k1], (by rw [← ht2]; exact ⟨⟨hk1, rfl, hd1⟩, trivial⟩), fun h9 => absurd (nI_lt (b := 120) h9.1 (by omega)) (Int32.not_lt.2 c_10), rfl⟩))⟩, hA8, fun q h1 _ => hfr q h1⟩) dX2_named_167 (Nat.le_of_ble_eq_true rfl) (Nat.le_of_ble_eq_true rfl)
        · skip
          have hw100 := pt_w_b hg30 (ps := [k1]) (Nat.le_of_ble_eq_true rfl)
          refine lv_iconst (v := 1) hx hb dX2_named_123 (by decide) ?_
          refine lv_aload_n hx hb dX2_named_124 rfl (lv_at hl 3 rfl) ?_
          refine lv_iload_n hx hb dX2_named_125 rfl (lv_at hl 6 rfl) ?_
          refine mm_callV (As := [.int (nI k1)]) (rest := [.int 1, .int 1, .int (mm_b true), .ref a]) ⟨hx, hb, hml, hown, hts⟩ hE hST hA (c_X2_weightOf l Z (T := T) (ps := [k1]) (i := 0) hm9 hg5 hl9 hgw (fun j hj => by first | (cases hj; assumption) | (simp at hj))) (cwV 1 hts (lw_V q2449 q2451 qs30 q54 q2452) rfl rfl rfl (by decide +kernel) ⟨(Nat.le_of_ble_eq_true rfl), (Nat.le_of_ble_eq_true rfl)⟩) hM hS mm_cX2 hm9 rfl hl.1 (Nat.le_of_ble_eq_true rfl) dX2_named_126 rfl ⟨(Nat.le_of_ble_eq_true rfl), (Nat.le_of_ble_eq_true rfl)⟩ (fun _ _ _ _ _ _ h9 => h9.elim) (fun v_11 M_12 H locs hp_13 hM hS => ?_)
          obtain ⟨rfl, eM_12⟩ := hp_13
          rw [eM_12] at hM
          refine lv_iadd hx hb dX2_named_129 ?_
          rw [show (1 + (nI (pt_wi T [k1] 0)) : Int32) = nI (1 + pt_wi T [k1] 0) from by rw [show (1 : Int32) = nI 1 from by decide, nI_add]]
          refine lv_aload_n hx hb dX2_named_130 rfl (lv_at hl 3 rfl) ?_
          refine lv_iload hx hb dX2_named_131 (lv_at hl 0 rfl) ?_
          refine mm_callV (As := [.int (-1)]) (rest := [.int (nI (1 + pt_wi T [k1] 0)), .int 1, .int (mm_b true), .ref a]) ⟨hx, hb, hml, hown, hts⟩ hE hST hA (c_X2_weightOf l Z (T := T) (ps := [k1]) (i := 1) hm9 hg5 hl9 hgw (fun j hj => by first | (cases hj; assumption) | (simp at hj))) (cwV 1 hts (lw_V q2449 q2451 qs30 q54 q2452) rfl rfl rfl (by decide +kernel) ⟨(Nat.le_of_ble_eq_true rfl), (Nat.le_of_ble_eq_true rfl)⟩) hM hS mm_cX2 hm9 rfl hl.1 (Nat.le_of_ble_eq_true rfl) dX2_named_133 rfl ⟨(Nat.le_of_ble_eq_true rfl), (Nat.le_of_ble_eq_true rfl)⟩ (fun _ _ _ _ _ _ h9 => h9.elim) (fun v_14 M_15 H locs hp_16 hM hS => ?_)
          obtain ⟨rfl, eM_15⟩ := hp_16
          rw [eM_15] at hM
          refine lv_iadd hx hb dX2_named_136 ?_
          rw [show ((nI (1 + pt_wi T [k1] 0)) + (nI (pt_wi T [k1] 1)) : Int32) = nI (1 + pt_wi T [k1] 0 + pt_wi T [k1] 1) from nI_add _ _]
          rw [show (nI (1 + pt_wi T [k1] 0 + pt_wi T [k1] 1) : Int32) = nI (pt_w T [k1]) from congrArg nI (pt_w_sum (ps := [k1]) (Nat.le_of_ble_eq_true rfl))]
          refine lv_bipush (v := 30) hx hb dX2_named_137 (by decide) ?_
          refine lv_icmp_gt (tgt := 146) hx hb dX2_named_139 (by decide) (fun c_17 => ?_) (fun c_17 => ?_)
          · skip
            refine lv_iconst (v := 0) hx hb dX2_named_146 (by decide) ?_
            refine mm_callV (As := [.int (mm_b true), .int (mm_b true), .int (mm_b false)]) (rest := []) ⟨hx, hb, hml, hown, hts⟩ hE hST hA (c_X2_goes l Z (b1 := true) (b2 := true) (b3 := false) hm9) (cwV 3 hts (lw_V q2441 q2443 qs28 q54 q2444) rfl rfl rfl (by decide +kernel) ⟨(Nat.le_of_ble_eq_true rfl), (Nat.le_of_ble_eq_true rfl)⟩) hM hS mm_cX2 hm9 rfl hl.1 (Nat.le_of_ble_eq_true rfl) dX2_named_147 rfl ⟨(Nat.le_of_ble_eq_true rfl), (Nat.le_of_ble_eq_true rfl)⟩ (fun _ _ _ _ _ _ h9 => h9.elim) (fun v_18 M_19 H locs hp_20 hM hS => ?_)
            obtain ⟨rfl, e0M_19⟩ := hp_20
            have eM_19 : M_19 = mm_U M a (.inr (1, [.int (nI T.length), .ref kd', .ref wh', .ref f1, .ref f2, .ref f3, .ref wg, .int ea, .int sp, va_rf rt, .int 3, .int ak, .int wr, .ref pl, .int tk, .int (mm_b fa), .long st])) := e0M_19
            rw [eM_19] at hM
            have hc_21 : (mm_U M a (.inr (1, [.int (nI T.length), .ref kd', .ref wh', .ref f1, .ref f2, .ref f3, .ref wg, .int ea, .int sp, va_rf rt, .int 3, .int ak, .int wr, .ref pl, .int tk, .int (mm_b fa), .long st]))) a = some (.inr (1, [.int (nI T.length), .ref kd', .ref wh', .ref f1, .ref f2, .ref f3, .ref wg, .int ea, .int sp, va_rf rt, .int 3, .int ak, .int wr, .ref pl, .int tk, .int (mm_b fa), .long st])) := mm_U_eq
            obtain ⟨M_22, eM_22⟩ : ∃ z, z = mm_U M a (.inr (1, [.int (nI T.length), .ref kd', .ref wh', .ref f1, .ref f2, .ref f3, .ref wg, .int ea, .int sp, va_rf rt, .int 3, .int ak, .int wr, .ref pl, .int tk, .int (mm_b fa), .long st])) := ⟨_, rfl⟩
            rw [← eM_22] at hM hc_21
            refine lv_if_eq (tgt := 166) hx hb dX2_named_150 (by decide) (fun _ => ?_) (fun h9 => absurd (by decide) h9)
            have hA8 : md_A Z M_22 kd' wh' f1 f2 f3 wg pl T := by rw [eM_22]; exact hA9.U hm9
            have hfr : ∀ q : Nat, q ≠ a → M_22 q = M q := fun q h1 => by rw [eM_22]; exact mm_U_ne h1
            refine lv_iconst (v := 0) hx hb dX2_named_166 (by decide) ?_
            exact mm_reti hx hb hr hlk hM hS (Or.inr ⟨rfl, ⟨3, hc_21, (Or.inr (Or.inr ⟨hb5.symm, [k1], (by rw [← ht2]; exact ⟨⟨hk1, rfl, hd1⟩, trivial⟩), fun h9 => absurd (nI_le (b := 30) h9.2 (by omega)) (Int32.not_le.2 c_17), rfl⟩))⟩, hA8, fun q h1 _ => hfr q h1⟩) dX2_named_167 (Nat.le_of_ble_eq_true rfl) (Nat.le_of_ble_eq_true rfl)
          · skip
            have hok : T.length < 120 ∧ pt_w T [k1] ≤ 30 := ⟨(nI_ltI (b := 120) (by omega) (by omega)).1 (Int32.not_le.1 c_10), (nI_leI (b := 30) (by omega) (by omega)).1 (Int32.not_lt.1 c_17)⟩
            refine lv_iconst (v := 1) hx hb dX2_named_142 (by decide) ?_
            refine lv_goto (tgt := 147) hx hb dX2_named_143 (by decide) ?_
            refine mm_callV (As := [.int (mm_b true), .int (mm_b true), .int (mm_b true)]) (rest := []) ⟨hx, hb, hml, hown, hts⟩ hE hST hA (c_X2_goes l Z (b1 := true) (b2 := true) (b3 := true) hm9) (cwV 3 hts (lw_V q2441 q2443 qs28 q54 q2444) rfl rfl rfl (by decide +kernel) ⟨(Nat.le_of_ble_eq_true rfl), (Nat.le_of_ble_eq_true rfl)⟩) hM hS mm_cX2 hm9 rfl hl.1 (Nat.le_of_ble_eq_true rfl) dX2_named_147 rfl ⟨(Nat.le_of_ble_eq_true rfl), (Nat.le_of_ble_eq_true rfl)⟩ (fun _ _ _ _ _ _ h9 => h9.elim) (fun v_18 M_19 H locs hp_20 hM hS => ?_)
            obtain ⟨rfl, e0M_19⟩ := hp_20
            have eM_19 : M_19 = mm_U M a (.inr (1, [.int (nI T.length), .ref kd', .ref wh', .ref f1, .ref f2, .ref f3, .ref wg, .int ea, .int sp, va_rf rt, .int 0, .int ak, .int wr, .ref pl, .int tk, .int (mm_b fa), .long st])) := e0M_19
            rw [eM_19] at hM
            have hc_21 : (mm_U M a (.inr (1, [.int (nI T.length), .ref kd', .ref wh', .ref f1, .ref f2, .ref f3, .ref wg, .int ea, .int sp, va_rf rt, .int 0, .int ak, .int wr, .ref pl, .int tk, .int (mm_b fa), .long st]))) a = some (.inr (1, [.int (nI T.length), .ref kd', .ref wh', .ref f1, .ref f2, .ref f3, .ref wg, .int ea, .int sp, va_rf rt, .int 0, .int ak, .int wr, .ref pl, .int tk, .int (mm_b fa), .long st])) := mm_U_eq
            obtain ⟨M_22, eM_22⟩ : ∃ z, z = mm_U M a (.inr (1, [.int (nI T.length), .ref kd', .ref wh', .ref f1, .ref f2, .ref f3, .ref wg, .int ea, .int sp, va_rf rt, .int 0, .int ak, .int wr, .ref pl, .int tk, .int (mm_b fa), .long st])) := ⟨_, rfl⟩
            rw [← eM_22] at hM hc_21
            refine lv_if_eq (tgt := 166) hx hb dX2_named_150 (by decide) (fun h9 => absurd h9 (by decide)) (fun _ => ?_)
            have hA8 : md_A Z M_22 kd' wh' f1 f2 f3 wg pl T := by rw [eM_22]; exact hA9.U hm9
            have hfr : ∀ q : Nat, q ≠ a → M_22 q = M q := fun q h1 => by rw [eM_22]; exact mm_U_ne h1
            refine lv_aload_n hx hb dX2_named_153 rfl (lv_at hl 3 rfl) ?_
            refine lv_iload_n hx hb dX2_named_154 rfl (lv_at hl 4 rfl) ?_
            refine lv_iload_n hx hb dX2_named_155 rfl (lv_at hl 5 rfl) ?_
            refine lv_iload_n hx hb dX2_named_156 rfl (lv_at hl 6 rfl) ?_
            refine lv_iload hx hb dX2_named_157 (lv_at hl 0 rfl) ?_
            refine lv_iconst (v := -1) hx hb dX2_named_159 (by decide) ?_
            have hmk : ∀ j ∈ ([k1] : List Nat), j < T.length := by intro j hj; simp only [List.mem_cons, List.not_mem_nil, or_false] at hj; subst hj; assumption
            refine mm_callV (As := [.int kd, .int wh, .int (nI k1), .int (-1), .int (-1)]) (rest := []) ⟨hx, hb, hml, hown, hts⟩ hE hST hA (c_X2_makes l Z (r := (kd, wh, 0, [k1], pt_w T [k1])) hc_21 hA8 hok.1 (by decide : 1 ≤ 3) hmk rfl (fun _ _ => pn_its h17) rfl hok.2) (cwV 5 hts (lw_V q2445 q2447 qs29 q54 q2448) rfl rfl rfl (by decide +kernel) ⟨(Nat.le_of_ble_eq_true rfl), (Nat.le_of_ble_eq_true rfl)⟩) hM hS mm_cX2 hc_21 rfl hl.1 (Nat.le_of_ble_eq_true rfl) dX2_named_160 rfl ⟨(Nat.le_of_ble_eq_true rfl), (Nat.le_of_ble_eq_true rfl)⟩ (fun _ _ _ _ _ _ h9 => h9.elim) (fun v_23 M_24 H locs hp_25 hM hS => ?_)
            obtain ⟨rfl, hm7, hA7, hfr7⟩ := hp_25
            refine lv_goto (tgt := 167) hx hb dX2_named_163 (by decide) ?_
            exact mm_reti hx hb hr hlk hM hS (Or.inl ⟨hb5.symm, [k1], (by rw [← ht2]; exact ⟨⟨hk1, rfl, hd1⟩, trivial⟩), hok, rfl, hm7, hA7, fun q h1 h2 => (hfr7 q h1 h2).trans (hfr q h1)⟩) dX2_named_167 (Nat.le_of_ble_eq_true rfl) (Nat.le_of_ble_eq_true rfl)
      · skip
        refine lv_iload_n hx hb dX2_named_66 rfl (lv_at hl 2 rfl) ?_
        refine mm_callS (As := [.int kd]) (rest := []) ⟨hx, hb, hml, hown, hts⟩ hE hST hA (c_X2_isOfTwo_b l Z) (va_cwS 1 hts (lw_S q2457 q2458 q54 q2459) rfl rfl rfl (by decide +kernel) ⟨(Nat.le_of_ble_eq_true rfl), (Nat.le_of_ble_eq_true rfl)⟩) hM hS rfl hl.1 (Nat.le_of_ble_eq_true rfl) dX2_named_67 rfl ⟨(Nat.le_of_ble_eq_true rfl), (Nat.le_of_ble_eq_true rfl)⟩ (fun _ _ _ _ _ _ h9 => h9.elim) (fun v_4 M_5 H locs hp_6 hM hS => ?_)
        obtain ⟨rfl, eM_5⟩ := hp_6
        rw [eM_5] at hM
        rw [show (mm_b (pn_two kd) : Int32) = mm_b true from by rw [← ht2]]
        refine lv_if_eq (tgt := 82) hx hb dX2_named_70 (by decide) (fun h9 => absurd h9 (by decide)) (fun _ => ?_)
        refine lv_aload_n hx hb dX2_named_73 rfl (lv_at hl 1 rfl) ?_
        refine lv_iload hx hb dX2_named_74 (lv_at hl 5 rfl) ?_
        refine mm_callV (As := [.int i2]) (rest := []) ⟨hx, hb, hml, hown, hts⟩ hE hST hA (c_X2_isOne l Z hm9 hA9) (cwV 1 hts (lw_V q2460 q2462 qs31 q54 q2463) rfl rfl rfl (by decide +kernel) ⟨(Nat.le_of_ble_eq_true rfl), (Nat.le_of_ble_eq_true rfl)⟩) hM hS mm_cX2 hm9 rfl hl.1 (Nat.le_of_ble_eq_true rfl) dX2_named_76 rfl ⟨(Nat.le_of_ble_eq_true rfl), (Nat.le_of_ble_eq_true rfl)⟩ (fun _ _ _ _ _ _ h9 => h9.elim) (fun v_7 M_8 H locs hp_9 hM hS => ?_)
        obtain ⟨rfl, eM_8⟩ := hp_9
        rw [eM_8] at hM
        rw [show (mm_b (pt_is T false i2) : Int32) = mm_b p2 from by rw [hp2]]
        cases p2
        · skip
          refine lv_if_eq (tgt := 86) hx hb dX2_named_79 (by decide) (fun _ => ?_) (fun h9 => absurd (by decide) h9)
          refine lv_iconst (v := 0) hx hb dX2_named_86 (by decide) ?_
          refine lv_istore hx hb dX2_named_87 hl (by decide) rfl (fun ls hl => ?_)
          replace hl : lv_has ls 8 [(6, .int 0), (5, .int (mm_b true)), (0, .ref a), (1, .int kd), (2, .int wh), (3, .int (nI k1)), (4, .int i2)] := hl
          refine lv_iload_n hx hb dX2_named_89 rfl (lv_at hl 3 rfl) ?_
          refine mm_callS (As := [.int kd]) (rest := []) ⟨hx, hb, hml, hown, hts⟩ hE hST hA (c_X2_isOfTwo_b l Z) (va_cwS 1 hts (lw_S q2457 q2458 q54 q2459) rfl rfl rfl (by decide +kernel) ⟨(Nat.le_of_ble_eq_true rfl), (Nat.le_of_ble_eq_true rfl)⟩) hM hS rfl hl.1 (Nat.le_of_ble_eq_true rfl) dX2_named_90 rfl ⟨(Nat.le_of_ble_eq_true rfl), (Nat.le_of_ble_eq_true rfl)⟩ (fun _ _ _ _ _ _ h9 => h9.elim) (fun v_10 M_11 H locs hp_12 hM hS => ?_)
          obtain ⟨rfl, eM_11⟩ := hp_12
          rw [eM_11] at hM
          rw [show (mm_b (pn_two kd) : Int32) = mm_b true from by rw [← ht2]]
          refine lv_if_eq (tgt := 101) hx hb dX2_named_93 (by decide) (fun h9 => absurd h9 (by decide)) (fun _ => ?_)
          refine lv_iload hx hb dX2_named_96 (lv_at hl 6 rfl) ?_
          refine lv_goto (tgt := 102) hx hb dX2_named_98 (by decide) ?_
          refine lv_istore hx hb dX2_named_102 hl (by decide) rfl (fun ls hl => ?_)
          replace hl : lv_has ls 8 [(7, .int i2), (6, .int 0), (5, .int (mm_b true)), (0, .ref a), (1, .int kd), (2, .int wh), (3, .int (nI k1)), (4, .int i2)] := hl
          refine lv_aload_n hx hb dX2_named_104 rfl (lv_at hl 3 rfl) ?_
          refine lv_iload hx hb dX2_named_105 (lv_at hl 2 rfl) ?_
          refine lv_iload hx hb dX2_named_107 (lv_at hl 1 rfl) ?_
          refine lv_iload hx hb dX2_named_109 (lv_at hl 1 rfl) ?_
          refine lv_if_eq (tgt := 146) hx hb dX2_named_111 (by decide) (fun _ => ?_) (fun h9 => absurd (by decide) h9)
          refine lv_iconst (v := 0) hx hb dX2_named_146 (by decide) ?_
          refine mm_callV (As := [.int (mm_b true), .int (mm_b false), .int (mm_b false)]) (rest := []) ⟨hx, hb, hml, hown, hts⟩ hE hST hA (c_X2_goes l Z (b1 := true) (b2 := false) (b3 := false) hm9) (cwV 3 hts (lw_V q2441 q2443 qs28 q54 q2444) rfl rfl rfl (by decide +kernel) ⟨(Nat.le_of_ble_eq_true rfl), (Nat.le_of_ble_eq_true rfl)⟩) hM hS mm_cX2 hm9 rfl hl.1 (Nat.le_of_ble_eq_true rfl) dX2_named_147 rfl ⟨(Nat.le_of_ble_eq_true rfl), (Nat.le_of_ble_eq_true rfl)⟩ (fun _ _ _ _ _ _ h9 => h9.elim) (fun v_13 M_14 H locs hp_15 hM hS => ?_)
          obtain ⟨rfl, e0M_14⟩ := hp_15
          have eM_14 : M_14 = mm_U M a (.inr (1, [.int (nI T.length), .ref kd', .ref wh', .ref f1, .ref f2, .ref f3, .ref wg, .int ea, .int sp, va_rf rt, .int 2, .int ak, .int wr, .ref pl, .int tk, .int (mm_b fa), .long st])) := e0M_14
          rw [eM_14] at hM
          have hc_16 : (mm_U M a (.inr (1, [.int (nI T.length), .ref kd', .ref wh', .ref f1, .ref f2, .ref f3, .ref wg, .int ea, .int sp, va_rf rt, .int 2, .int ak, .int wr, .ref pl, .int tk, .int (mm_b fa), .long st]))) a = some (.inr (1, [.int (nI T.length), .ref kd', .ref wh', .ref f1, .ref f2, .ref f3, .ref wg, .int ea, .int sp, va_rf rt, .int 2, .int ak, .int wr, .ref pl, .int tk, .int (mm_b fa), .long st])) := mm_U_eq
          obtain ⟨M_17, eM_17⟩ : ∃ z, z = mm_U M a (.inr (1, [.int (nI T.length), .ref kd', .ref wh', .ref f1, .ref f2, .ref f3, .ref wg, .int ea, .int sp, va_rf rt, .int 2, .int ak, .int wr, .ref pl, .int tk, .int (mm_b fa), .long st])) := ⟨_, rfl⟩
          rw [← eM_17] at hM hc_16
          refine lv_if_eq (tgt := 166) hx hb dX2_named_150 (by decide) (fun _ => ?_) (fun h9 => absurd (by decide) h9)
          have hA8 : md_A Z M_17 kd' wh' f1 f2 f3 wg pl T := by rw [eM_17]; exact hA9.U hm9
          have hfr : ∀ q : Nat, q ≠ a → M_17 q = M q := fun q h1 => by rw [eM_17]; exact mm_U_ne h1
          refine lv_iconst (v := 0) hx hb dX2_named_166 (by decide) ?_
          exact mm_reti hx hb hr hlk hM hS (Or.inr ⟨rfl, ⟨2, hc_16, (Or.inr (Or.inl ⟨hb5.symm, fun ps hps => (by rw [← ht2] at hps; have h9 := pt_is_iff.2 (pt_p_2 hps); rw [← hp2] at h9; cases h9), rfl⟩))⟩, hA8, fun q h1 _ => hfr q h1⟩) dX2_named_167 (Nat.le_of_ble_eq_true rfl) (Nat.le_of_ble_eq_true rfl)
        · skip
          refine lv_if_eq (tgt := 86) hx hb dX2_named_79 (by decide) (fun h9 => absurd h9 (by decide)) (fun _ => ?_)
          obtain ⟨k2, hk2, rfl, hd2⟩ := pt_is_iff.1 hp2.symm
          refine lv_iconst (v := 1) hx hb dX2_named_82 (by decide) ?_
          refine lv_goto (tgt := 87) hx hb dX2_named_83 (by decide) ?_
          refine lv_istore hx hb dX2_named_87 hl (by decide) rfl (fun ls hl => ?_)
          replace hl : lv_has ls 8 [(6, .int 1), (5, .int (mm_b true)), (0, .ref a), (1, .int kd), (2, .int wh), (3, .int (nI k1)), (4, .int (nI k2))] := hl
          refine lv_iload_n hx hb dX2_named_89 rfl (lv_at hl 3 rfl) ?_
          refine mm_callS (As := [.int kd]) (rest := []) ⟨hx, hb, hml, hown, hts⟩ hE hST hA (c_X2_isOfTwo_b l Z) (va_cwS 1 hts (lw_S q2457 q2458 q54 q2459) rfl rfl rfl (by decide +kernel) ⟨(Nat.le_of_ble_eq_true rfl), (Nat.le_of_ble_eq_true rfl)⟩) hM hS rfl hl.1 (Nat.le_of_ble_eq_true rfl) dX2_named_90 rfl ⟨(Nat.le_of_ble_eq_true rfl), (Nat.le_of_ble_eq_true rfl)⟩ (fun _ _ _ _ _ _ h9 => h9.elim) (fun v_10 M_11 H locs hp_12 hM hS => ?_)
          obtain ⟨rfl, eM_11⟩ := hp_12
          rw [eM_11] at hM
          rw [show (mm_b (pn_two kd) : Int32) = mm_b true from by rw [← ht2]]
          refine lv_if_eq (tgt := 101) hx hb dX2_named_93 (by decide) (fun h9 => absurd h9 (by decide)) (fun _ => ?_)
          refine lv_iload hx hb dX2_named_96 (lv_at hl 6 rfl) ?_
          refine lv_goto (tgt := 102) hx hb dX2_named_98 (by decide) ?_
          refine lv_istore hx hb dX2_named_102 hl (by decide) rfl (fun ls hl => ?_)
          replace hl : lv_has ls 8 [(7, .int (nI k2)), (6, .int 1), (5, .int (mm_b true)), (0, .ref a), (1, .int kd), (2, .int wh), (3, .int (nI k1)), (4, .int (nI k2))] := hl
          refine lv_aload_n hx hb dX2_named_104 rfl (lv_at hl 3 rfl) ?_
          refine lv_iload hx hb dX2_named_105 (lv_at hl 2 rfl) ?_
          refine lv_iload hx hb dX2_named_107 (lv_at hl 1 rfl) ?_
          refine lv_iload hx hb dX2_named_109 (lv_at hl 1 rfl) ?_
          refine lv_if_eq (tgt := 146) hx hb dX2_named_111 (by decide) (fun h9 => absurd h9 (by decide)) (fun _ => ?_)
          refine lv_aload_n hx hb dX2_named_114 rfl (lv_at hl 3 rfl) ?_
          refine va_get (D := Z.1) (ci := 1) (v := .int (nI T.length)) (C := RX2) (T := TX2) (N := 17) hx hb hts in_X2 hown hE.1 (hM.at hm9) 0 rfl mm_cX2 0 (by decide) (hts _ q2378) (fun _ h9 => h9) rfl dX2_named_115 ?_
          refine lv_bipush (v := 120) hx hb dX2_named_118 (by decide) ?_
          refine lv_icmp_ge (tgt := 146) hx hb dX2_named_120 (by decide) (fun c_13 => ?_) (fun c_13 => ?_)
          · skip
            refine lv_iconst (v := 0) hx hb dX2_named_146 (by decide) ?_
            refine mm_callV (As := [.int (mm_b true), .int (mm_b true), .int (mm_b false)]) (rest := []) ⟨hx, hb, hml, hown, hts⟩ hE hST hA (c_X2_goes l Z (b1 := true) (b2 := true) (b3 := false) hm9) (cwV 3 hts (lw_V q2441 q2443 qs28 q54 q2444) rfl rfl rfl (by decide +kernel) ⟨(Nat.le_of_ble_eq_true rfl), (Nat.le_of_ble_eq_true rfl)⟩) hM hS mm_cX2 hm9 rfl hl.1 (Nat.le_of_ble_eq_true rfl) dX2_named_147 rfl ⟨(Nat.le_of_ble_eq_true rfl), (Nat.le_of_ble_eq_true rfl)⟩ (fun _ _ _ _ _ _ h9 => h9.elim) (fun v_14 M_15 H locs hp_16 hM hS => ?_)
            obtain ⟨rfl, e0M_15⟩ := hp_16
            have eM_15 : M_15 = mm_U M a (.inr (1, [.int (nI T.length), .ref kd', .ref wh', .ref f1, .ref f2, .ref f3, .ref wg, .int ea, .int sp, va_rf rt, .int 3, .int ak, .int wr, .ref pl, .int tk, .int (mm_b fa), .long st])) := e0M_15
            rw [eM_15] at hM
            have hc_17 : (mm_U M a (.inr (1, [.int (nI T.length), .ref kd', .ref wh', .ref f1, .ref f2, .ref f3, .ref wg, .int ea, .int sp, va_rf rt, .int 3, .int ak, .int wr, .ref pl, .int tk, .int (mm_b fa), .long st]))) a = some (.inr (1, [.int (nI T.length), .ref kd', .ref wh', .ref f1, .ref f2, .ref f3, .ref wg, .int ea, .int sp, va_rf rt, .int 3, .int ak, .int wr, .ref pl, .int tk, .int (mm_b fa), .long st])) := mm_U_eq
            obtain ⟨M_18, eM_18⟩ : ∃ z, z = mm_U M a (.inr (1, [.int (nI T.length), .ref kd', .ref wh', .ref f1, .ref f2, .ref f3, .ref wg, .int ea, .int sp, va_rf rt, .int 3, .int ak, .int wr, .ref pl, .int tk, .int (mm_b fa), .long st])) := ⟨_, rfl⟩
            rw [← eM_18] at hM hc_17
            refine lv_if_eq (tgt := 166) hx hb dX2_named_150 (by decide) (fun _ => ?_) (fun h9 => absurd (by decide) h9)
            have hA8 : md_A Z M_18 kd' wh' f1 f2 f3 wg pl T := by rw [eM_18]; exact hA9.U hm9
            have hfr : ∀ q : Nat, q ≠ a → M_18 q = M q := fun q h1 => by rw [eM_18]; exact mm_U_ne h1
            refine lv_iconst (v := 0) hx hb dX2_named_166 (by decide) ?_
            exact mm_reti hx hb hr hlk hM hS (Or.inr ⟨rfl, ⟨3, hc_17, (Or.inr (Or.inr ⟨hb5.symm, [k1, k2], (by rw [← ht2]; exact ⟨⟨hk1, rfl, hd1⟩, ⟨hk2, rfl, hd2⟩, trivial⟩), fun h9 => absurd (nI_lt (b := 120) h9.1 (by omega)) (Int32.not_lt.2 c_13), rfl⟩))⟩, hA8, fun q h1 _ => hfr q h1⟩) dX2_named_167 (Nat.le_of_ble_eq_true rfl) (Nat.le_of_ble_eq_true rfl)
          · skip
            have hw100 := pt_w_b hg30 (ps := [k1, k2]) (Nat.le_of_ble_eq_true rfl)
            refine lv_iconst (v := 1) hx hb dX2_named_123 (by decide) ?_
            refine lv_aload_n hx hb dX2_named_124 rfl (lv_at hl 3 rfl) ?_
            refine lv_iload_n hx hb dX2_named_125 rfl (lv_at hl 6 rfl) ?_
            refine mm_callV (As := [.int (nI k1)]) (rest := [.int 1, .int 1, .int (mm_b true), .ref a]) ⟨hx, hb, hml, hown, hts⟩ hE hST hA (c_X2_weightOf l Z (T := T) (ps := [k1, k2]) (i := 0) hm9 hg5 hl9 hgw (fun j hj => by first | (cases hj; assumption) | (simp at hj))) (cwV 1 hts (lw_V q2449 q2451 qs30 q54 q2452) rfl rfl rfl (by decide +kernel) ⟨(Nat.le_of_ble_eq_true rfl), (Nat.le_of_ble_eq_true rfl)⟩) hM hS mm_cX2 hm9 rfl hl.1 (Nat.le_of_ble_eq_true rfl) dX2_named_126 rfl ⟨(Nat.le_of_ble_eq_true rfl), (Nat.le_of_ble_eq_true rfl)⟩ (fun _ _ _ _ _ _ h9 => h9.elim) (fun v_14 M_15 H locs hp_16 hM hS => ?_)
            obtain ⟨rfl, eM_15⟩ := hp_16
            rw [eM_15] at hM
            refine lv_iadd hx hb dX2_named_129 ?_
            rw [show (1 + (nI (pt_wi T [k1, k2] 0)) : Int32) = nI (1 + pt_wi T [k1, k2] 0) from by rw [show (1 : Int32) = nI 1 from by decide, nI_add]]
            refine lv_aload_n hx hb dX2_named_130 rfl (lv_at hl 3 rfl) ?_
            refine lv_iload hx hb dX2_named_131 (lv_at hl 0 rfl) ?_
            refine mm_callV (As := [.int (nI k2)]) (rest := [.int (nI (1 + pt_wi T [k1, k2] 0)), .int 1, .int (mm_b true), .ref a]) ⟨hx, hb, hml, hown, hts⟩ hE hST hA (c_X2_weightOf l Z (T := T) (ps := [k1, k2]) (i := 1) hm9 hg5 hl9 hgw (fun j hj => by first | (cases hj; assumption) | (simp at hj))) (cwV 1 hts (lw_V q2449 q2451 qs30 q54 q2452) rfl rfl rfl (by decide +kernel) ⟨(Nat.le_of_ble_eq_true rfl), (Nat.le_of_ble_eq_true rfl)⟩) hM hS mm_cX2 hm9 rfl hl.1 (Nat.le_of_ble_eq_true rfl) dX2_named_133 rfl ⟨(Nat.le_of_ble_eq_true rfl), (Nat.le_of_ble_eq_true rfl)⟩ (fun _ _ _ _ _ _ h9 => h9.elim) (fun v_17 M_18 H locs hp_19 hM hS => ?_)
            obtain ⟨rfl, eM_18⟩ := hp_19
            rw [eM_18] at hM
            refine lv_iadd hx hb dX2_named_136 ?_
            rw [show ((nI (1 + pt_wi T [k1, k2] 0)) + (nI (pt_wi T [k1, k2] 1)) : Int32) = nI (1 + pt_wi T [k1, k2] 0 + pt_wi T [k1, k2] 1) from nI_add _ _]
            rw [show (nI (1 + pt_wi T [k1, k2] 0 + pt_wi T [k1, k2] 1) : Int32) = nI (pt_w T [k1, k2]) from congrArg nI (pt_w_sum (ps := [k1, k2]) (Nat.le_of_ble_eq_true rfl))]
            refine lv_bipush (v := 30) hx hb dX2_named_137 (by decide) ?_
            refine lv_icmp_gt (tgt := 146) hx hb dX2_named_139 (by decide) (fun c_20 => ?_) (fun c_20 => ?_)
            · skip
              refine lv_iconst (v := 0) hx hb dX2_named_146 (by decide) ?_
              refine mm_callV (As := [.int (mm_b true), .int (mm_b true), .int (mm_b false)]) (rest := []) ⟨hx, hb, hml, hown, hts⟩ hE hST hA (c_X2_goes l Z (b1 := true) (b2 := true) (b3 := false) hm9) (cwV 3 hts (lw_V q2441 q2443 qs28 q54 q2444) rfl rfl rfl (by decide +kernel) ⟨(Nat.le_of_ble_eq_true rfl), (Nat.le_of_ble_eq_true rfl)⟩) hM hS mm_cX2 hm9 rfl hl.1 (Nat.le_of_ble_eq_true rfl) dX2_named_147 rfl ⟨(Nat.le_of_ble_eq_true rfl), (Nat.le_of_ble_eq_true rfl)⟩ (fun _ _ _ _ _ _ h9 => h9.elim) (fun v_21 M_22 H locs hp_23 hM hS => ?_)
              obtain ⟨rfl, e0M_22⟩ := hp_23
              have eM_22 : M_22 = mm_U M a (.inr (1, [.int (nI T.length), .ref kd', .ref wh', .ref f1, .ref f2, .ref f3, .ref wg, .int ea, .int sp, va_rf rt, .int 3, .int ak, .int wr, .ref pl, .int tk, .int (mm_b fa), .long st])) := e0M_22
              rw [eM_22] at hM
              have hc_24 : (mm_U M a (.inr (1, [.int (nI T.length), .ref kd', .ref wh', .ref f1, .ref f2, .ref f3, .ref wg, .int ea, .int sp, va_rf rt, .int 3, .int ak, .int wr, .ref pl, .int tk, .int (mm_b fa), .long st]))) a = some (.inr (1, [.int (nI T.length), .ref kd', .ref wh', .ref f1, .ref f2, .ref f3, .ref wg, .int ea, .int sp, va_rf rt, .int 3, .int ak, .int wr, .ref pl, .int tk, .int (mm_b fa), .long st])) := mm_U_eq
              obtain ⟨M_25, eM_25⟩ : ∃ z, z = mm_U M a (.inr (1, [.int (nI T.length), .ref kd', .ref wh', .ref f1, .ref f2, .ref f3, .ref wg, .int ea, .int sp, va_rf rt, .int 3, .int ak, .int wr, .ref pl, .int tk, .int (mm_b fa), .long st])) := ⟨_, rfl⟩
              rw [← eM_25] at hM hc_24
              refine lv_if_eq (tgt := 166) hx hb dX2_named_150 (by decide) (fun _ => ?_) (fun h9 => absurd (by decide) h9)
              have hA8 : md_A Z M_25 kd' wh' f1 f2 f3 wg pl T := by rw [eM_25]; exact hA9.U hm9
              have hfr : ∀ q : Nat, q ≠ a → M_25 q = M q := fun q h1 => by rw [eM_25]; exact mm_U_ne h1
              refine lv_iconst (v := 0) hx hb dX2_named_166 (by decide) ?_
              exact mm_reti hx hb hr hlk hM hS (Or.inr ⟨rfl, ⟨3, hc_24, (Or.inr (Or.inr ⟨hb5.symm, [k1, k2], (by rw [← ht2]; exact ⟨⟨hk1, rfl, hd1⟩, ⟨hk2, rfl, hd2⟩, trivial⟩), fun h9 => absurd (nI_le (b := 30) h9.2 (by omega)) (Int32.not_le.2 c_20), rfl⟩))⟩, hA8, fun q h1 _ => hfr q h1⟩) dX2_named_167 (Nat.le_of_ble_eq_true rfl) (Nat.le_of_ble_eq_true rfl)
            · skip
              have hok : T.length < 120 ∧ pt_w T [k1, k2] ≤ 30 := ⟨(nI_ltI (b := 120) (by omega) (by omega)).1 (Int32.not_le.1 c_13), (nI_leI (b := 30) (by omega) (by omega)).1 (Int32.not_lt.1 c_20)⟩
              refine lv_iconst (v := 1) hx hb dX2_named_142 (by decide) ?_
              refine lv_goto (tgt := 147) hx hb dX2_named_143 (by decide) ?_
              refine mm_callV (As := [.int (mm_b true), .int (mm_b true), .int (mm_b true)]) (rest := []) ⟨hx, hb, hml, hown, hts⟩ hE hST hA (c_X2_goes l Z (b1 := true) (b2 := true) (b3 := true) hm9) (cwV 3 hts (lw_V q2441 q2443 qs28 q54 q2444) rfl rfl rfl (by decide +kernel) ⟨(Nat.le_of_ble_eq_true rfl), (Nat.le_of_ble_eq_true rfl)⟩) hM hS mm_cX2 hm9 rfl hl.1 (Nat.le_of_ble_eq_true rfl) dX2_named_147 rfl ⟨(Nat.le_of_ble_eq_true rfl), (Nat.le_of_ble_eq_true rfl)⟩ (fun _ _ _ _ _ _ h9 => h9.elim) (fun v_21 M_22 H locs hp_23 hM hS => ?_)
              obtain ⟨rfl, e0M_22⟩ := hp_23
              have eM_22 : M_22 = mm_U M a (.inr (1, [.int (nI T.length), .ref kd', .ref wh', .ref f1, .ref f2, .ref f3, .ref wg, .int ea, .int sp, va_rf rt, .int 0, .int ak, .int wr, .ref pl, .int tk, .int (mm_b fa), .long st])) := e0M_22
              rw [eM_22] at hM
              have hc_24 : (mm_U M a (.inr (1, [.int (nI T.length), .ref kd', .ref wh', .ref f1, .ref f2, .ref f3, .ref wg, .int ea, .int sp, va_rf rt, .int 0, .int ak, .int wr, .ref pl, .int tk, .int (mm_b fa), .long st]))) a = some (.inr (1, [.int (nI T.length), .ref kd', .ref wh', .ref f1, .ref f2, .ref f3, .ref wg, .int ea, .int sp, va_rf rt, .int 0, .int ak, .int wr, .ref pl, .int tk, .int (mm_b fa), .long st])) := mm_U_eq
              obtain ⟨M_25, eM_25⟩ : ∃ z, z = mm_U M a (.inr (1, [.int (nI T.length), .ref kd', .ref wh', .ref f1, .ref f2, .ref f3, .ref wg, .int ea, .int sp, va_rf rt, .int 0, .int ak, .int wr, .ref pl, .int tk, .int (mm_b fa), .long st])) := ⟨_, rfl⟩
              rw [← eM_25] at hM hc_24
              refine lv_if_eq (tgt := 166) hx hb dX2_named_150 (by decide) (fun h9 => absurd h9 (by decide)) (fun _ => ?_)
              have hA8 : md_A Z M_25 kd' wh' f1 f2 f3 wg pl T := by rw [eM_25]; exact hA9.U hm9
              have hfr : ∀ q : Nat, q ≠ a → M_25 q = M q := fun q h1 => by rw [eM_25]; exact mm_U_ne h1
              refine lv_aload_n hx hb dX2_named_153 rfl (lv_at hl 3 rfl) ?_
              refine lv_iload_n hx hb dX2_named_154 rfl (lv_at hl 4 rfl) ?_
              refine lv_iload_n hx hb dX2_named_155 rfl (lv_at hl 5 rfl) ?_
              refine lv_iload_n hx hb dX2_named_156 rfl (lv_at hl 6 rfl) ?_
              refine lv_iload hx hb dX2_named_157 (lv_at hl 0 rfl) ?_
              refine lv_iconst (v := -1) hx hb dX2_named_159 (by decide) ?_
              have hmk : ∀ j ∈ ([k1, k2] : List Nat), j < T.length := by intro j hj; simp only [List.mem_cons, List.not_mem_nil, or_false] at hj; rcases hj with rfl | rfl <;> assumption
              refine mm_callV (As := [.int kd, .int wh, .int (nI k1), .int (nI k2), .int (-1)]) (rest := []) ⟨hx, hb, hml, hown, hts⟩ hE hST hA (c_X2_makes l Z (r := (kd, wh, 0, [k1, k2], pt_w T [k1, k2])) hc_24 hA8 hok.1 (by decide : 2 ≤ 3) hmk rfl (fun _ _ => pn_its h17) rfl hok.2) (cwV 5 hts (lw_V q2445 q2447 qs29 q54 q2448) rfl rfl rfl (by decide +kernel) ⟨(Nat.le_of_ble_eq_true rfl), (Nat.le_of_ble_eq_true rfl)⟩) hM hS mm_cX2 hc_24 rfl hl.1 (Nat.le_of_ble_eq_true rfl) dX2_named_160 rfl ⟨(Nat.le_of_ble_eq_true rfl), (Nat.le_of_ble_eq_true rfl)⟩ (fun _ _ _ _ _ _ h9 => h9.elim) (fun v_26 M_27 H locs hp_28 hM hS => ?_)
              obtain ⟨rfl, hm7, hA7, hfr7⟩ := hp_28
              refine lv_goto (tgt := 167) hx hb dX2_named_163 (by decide) ?_
              exact mm_reti hx hb hr hlk hM hS (Or.inl ⟨hb5.symm, [k1, k2], (by rw [← ht2]; exact ⟨⟨hk1, rfl, hd1⟩, ⟨hk2, rfl, hd2⟩, trivial⟩), hok, rfl, hm7, hA7, fun q h1 h2 => (hfr7 q h1 h2).trans (hfr q h1)⟩) dX2_named_167 (Nat.le_of_ble_eq_true rfl) (Nat.le_of_ble_eq_true rfl)
set_option maxHeartbeats 4000000 in
set_option maxRecDepth 100000 in
theorem c_X2_match (l : Launch) (Z : mm_G) {M : mm_M} {a kd' wh' f1 f2 f3 wg pl : Nat} {ea sp th ak wr tk : Int32} {rt : Option Nat} {fa : Bool} {st : Int64} {T : List pt_R} (hm9 : M a = some (md_E (nI T.length) kd' wh' f1 f2 f3 wg ea sp rt th ak wr pl tk fa st)) (hA9 : md_A Z M kd' wh' f1 f2 f3 wg pl T) {lb nm i1 i2 : Int32} : mm_C l Z yX2_match (ws_ yX2_match cX2_match 7 (some .int)) { frames := 4, cells := 0, slots := 0, locals := 160 } [.ref a, .int lb, .int nm, .int i1, .int i2] M (fun v M' => ((decide (0 ≤ lb ∧ lb ≤ 9) && decide (0 ≤ nm ∧ nm ≤ 9)) = true ∧ ∃ ps : List Nat, pt_p T [(false, i1), (true, i2)] ps ∧ (T.length < 120 ∧ pt_w T ps ≤ 30) ∧ v = some (.int (nI T.length)) ∧ M' a = some (md_E (nI (T.length + 1)) kd' wh' f1 f2 f3 wg ea sp rt 0 ak wr pl tk fa st) ∧ md_A Z M' kd' wh' f1 f2 f3 wg pl (T ++ [(17, lb, nm, ps, pt_w T ps)]) ∧ (∀ q : Nat, q ≠ a → q ∉ [kd', wh', f1, f2, f3, wg] → M' q = M q)) ∨ (v = some (.int 0) ∧ (∃ code : Int32, M' a = some (md_E (nI T.length) kd' wh' f1 f2 f3 wg ea sp rt code ak wr pl tk fa st) ∧ (((decide (0 ≤ lb ∧ lb ≤ 9) && decide (0 ≤ nm ∧ nm ≤ 9)) = false ∧ code = 1) ∨ ((decide (0 ≤ lb ∧ lb ≤ 9) && decide (0 ≤ nm ∧ nm ≤ 9)) = true ∧ (∀ ps, ¬ pt_p T [(false, i1), (true, i2)] ps) ∧ code = 2) ∨ ((decide (0 ≤ lb ∧ lb ≤ 9) && decide (0 ≤ nm ∧ nm ≤ 9)) = true ∧ ∃ ps, pt_p T [(false, i1), (true, i2)] ps ∧ ¬ (T.length < 120 ∧ pt_w T ps ≤ 30) ∧ code = 3))) ∧ md_A Z M' kd' wh' f1 f2 f3 wg pl T ∧ (∀ q : Nat, q ≠ a → q ∉ [kd', wh', f1, f2, f3, wg] → M' q = M q))) mm_nx := by
  refine mm_ofW (cc := cX2_match) (maxL := 7) (ret := (some .int)) (by decide) rfl (Nat.le_of_ble_eq_true rfl) ?_
  intro p e s m below meth c A ls hx hb hr hlk hml hown hmn hts htab hE hST hA hM hS hl
  replace hl : lv_has ls 7 [(0, .ref a), (1, .int lb), (2, .int nm), (3, .int i1), (4, .int i2)] := hl
  obtain ⟨g5, hg5, hl9, hgw, hg30⟩ := hA9.par
  obtain ⟨b5, hb5⟩ : ∃ z, z = (decide (0 ≤ lb ∧ lb ≤ 9) && decide (0 ≤ nm ∧ nm ≤ 9)) := ⟨_, rfl⟩
  obtain ⟨p1, hp1⟩ : ∃ z, z = pt_is T false i1 := ⟨_, rfl⟩
  obtain ⟨p2, hp2⟩ : ∃ z, z = pt_is T true i2 := ⟨_, rfl⟩
  refine mm_cutW (v0 := mm_b b5) (pc2 := 25) (ls := ls) (rest := []) (M := M) (fun kk => ?_) (fun H locs hM hS => ?_) hM hS
  · skip
    refine lv_iload_n hx hb dX2_match_0 rfl (lv_at hl 1 rfl) ?_
    refine lv_iconst (v := 0) hx hb dX2_match_1 (by decide) ?_
    refine lv_bipush (v := 9) hx hb dX2_match_2 (by decide) ?_
    refine mm_callS (As := [.int lb, .int 0, .int 9]) (rest := []) ⟨hx, hb, hml, hown, hts⟩ hE hST hA (c_X2_in l Z) (va_cwS 3 hts (lw_S q2438 q2439 q54 q2440) rfl rfl rfl (by decide +kernel) ⟨(Nat.le_of_ble_eq_true rfl), (Nat.le_of_ble_eq_true rfl)⟩) hM hS rfl hl.1 (Nat.le_of_ble_eq_true rfl) dX2_match_4 rfl ⟨(Nat.le_of_ble_eq_true rfl), (Nat.le_of_ble_eq_true rfl)⟩ (fun _ _ _ _ _ _ h9 => h9.elim) (fun v_1 M_2 H locs hp_3 hM hS => ?_)
    obtain ⟨rfl, eM_2⟩ := hp_3
    rw [eM_2] at hM
    refine lv_if_eq (tgt := 24) hx hb dX2_match_7 (by decide) (fun c_4 => ?_) (fun c_4 => ?_)
    · skip
      refine lv_iconst (v := 0) hx hb dX2_match_24 (by decide) ?_
      exact kk _ _ _ hM hS (show (mm_b b5 : Int32) = 0 from by (first | (rw [hb5]; (try simp only [mm_b_0] at c_4); simp [mm_b, mm_b, c_4]; done))).symm
    · skip
      refine lv_iload_n hx hb dX2_match_10 rfl (lv_at hl 2 rfl) ?_
      refine lv_iconst (v := 0) hx hb dX2_match_11 (by decide) ?_
      refine lv_bipush (v := 9) hx hb dX2_match_12 (by decide) ?_
      refine mm_callS (As := [.int nm, .int 0, .int 9]) (rest := []) ⟨hx, hb, hml, hown, hts⟩ hE hST hA (c_X2_in l Z) (va_cwS 3 hts (lw_S q2438 q2439 q54 q2440) rfl rfl rfl (by decide +kernel) ⟨(Nat.le_of_ble_eq_true rfl), (Nat.le_of_ble_eq_true rfl)⟩) hM hS rfl hl.1 (Nat.le_of_ble_eq_true rfl) dX2_match_14 rfl ⟨(Nat.le_of_ble_eq_true rfl), (Nat.le_of_ble_eq_true rfl)⟩ (fun _ _ _ _ _ _ h9 => h9.elim) (fun v_5 M_6 H locs hp_7 hM hS => ?_)
      obtain ⟨rfl, eM_6⟩ := hp_7
      rw [eM_6] at hM
      refine lv_if_eq (tgt := 24) hx hb dX2_match_17 (by decide) (fun c_8 => ?_) (fun c_8 => ?_)
      · skip
        refine lv_iconst (v := 0) hx hb dX2_match_24 (by decide) ?_
        exact kk _ _ _ hM hS (show (mm_b b5 : Int32) = 0 from by (first | (rw [hb5]; (try simp only [mm_b_0] at c_4); (try simp only [mm_b_0] at c_8); simp [mm_b, mm_b, c_4, c_8]; done) | exact absurd (c_4.symm.trans c_8) (by decide))).symm
      · skip
        refine lv_iconst (v := 1) hx hb dX2_match_20 (by decide) ?_
        refine lv_goto (tgt := 25) hx hb dX2_match_21 (by decide) ?_
        exact kk _ _ _ hM hS (show (mm_b b5 : Int32) = 1 from by (first | (rw [hb5]; (try simp only [mm_b_0] at c_4); (try simp only [mm_b_0] at c_8); simp [mm_b, mm_b, c_4, c_8]; done) | exact absurd (c_4.symm.trans c_8) (by decide))).symm
  refine lv_istore hx hb dX2_match_25 hl (by decide) rfl (fun ls hl => ?_)
  replace hl : lv_has ls 7 [(5, .int (mm_b b5)), (0, .ref a), (1, .int lb), (2, .int nm), (3, .int i1), (4, .int i2)] := hl
  refine lv_iload hx hb dX2_match_27 (lv_at hl 0 rfl) ?_
  cases b5
  · skip
    refine lv_if_eq (tgt := 53) hx hb dX2_match_29 (by decide) (fun _ => ?_) (fun h9 => absurd (by decide) h9)
    refine lv_iconst (v := 0) hx hb dX2_match_53 (by decide) ?_
    refine lv_istore hx hb dX2_match_54 hl (by decide) rfl (fun ls hl => ?_)
    replace hl : lv_has ls 7 [(6, .int 0), (5, .int (mm_b false)), (0, .ref a), (1, .int lb), (2, .int nm), (3, .int i1), (4, .int i2)] := hl
    refine lv_aload_n hx hb dX2_match_56 rfl (lv_at hl 2 rfl) ?_
    refine lv_iload hx hb dX2_match_57 (lv_at hl 1 rfl) ?_
    refine lv_iload hx hb dX2_match_59 (lv_at hl 0 rfl) ?_
    refine lv_iload hx hb dX2_match_61 (lv_at hl 0 rfl) ?_
    refine lv_if_eq (tgt := 98) hx hb dX2_match_63 (by decide) (fun _ => ?_) (fun h9 => absurd (by decide) h9)
    refine lv_iconst (v := 0) hx hb dX2_match_98 (by decide) ?_
    refine mm_callV (As := [.int (mm_b false), .int (mm_b false), .int (mm_b false)]) (rest := []) ⟨hx, hb, hml, hown, hts⟩ hE hST hA (c_X2_goes l Z (b1 := false) (b2 := false) (b3 := false) hm9) (cwV 3 hts (lw_V q2441 q2443 qs28 q54 q2444) rfl rfl rfl (by decide +kernel) ⟨(Nat.le_of_ble_eq_true rfl), (Nat.le_of_ble_eq_true rfl)⟩) hM hS mm_cX2 hm9 rfl hl.1 (Nat.le_of_ble_eq_true rfl) dX2_match_99 rfl ⟨(Nat.le_of_ble_eq_true rfl), (Nat.le_of_ble_eq_true rfl)⟩ (fun _ _ _ _ _ _ h9 => h9.elim) (fun v_1 M_2 H locs hp_3 hM hS => ?_)
    obtain ⟨rfl, e0M_2⟩ := hp_3
    have eM_2 : M_2 = mm_U M a (.inr (1, [.int (nI T.length), .ref kd', .ref wh', .ref f1, .ref f2, .ref f3, .ref wg, .int ea, .int sp, va_rf rt, .int 1, .int ak, .int wr, .ref pl, .int tk, .int (mm_b fa), .long st])) := e0M_2
    rw [eM_2] at hM
    have hc_4 : (mm_U M a (.inr (1, [.int (nI T.length), .ref kd', .ref wh', .ref f1, .ref f2, .ref f3, .ref wg, .int ea, .int sp, va_rf rt, .int 1, .int ak, .int wr, .ref pl, .int tk, .int (mm_b fa), .long st]))) a = some (.inr (1, [.int (nI T.length), .ref kd', .ref wh', .ref f1, .ref f2, .ref f3, .ref wg, .int ea, .int sp, va_rf rt, .int 1, .int ak, .int wr, .ref pl, .int tk, .int (mm_b fa), .long st])) := mm_U_eq
    obtain ⟨M_5, eM_5⟩ : ∃ z, z = mm_U M a (.inr (1, [.int (nI T.length), .ref kd', .ref wh', .ref f1, .ref f2, .ref f3, .ref wg, .int ea, .int sp, va_rf rt, .int 1, .int ak, .int wr, .ref pl, .int tk, .int (mm_b fa), .long st])) := ⟨_, rfl⟩
    rw [← eM_5] at hM hc_4
    refine lv_if_eq (tgt := 124) hx hb dX2_match_102 (by decide) (fun _ => ?_) (fun h9 => absurd (by decide) h9)
    have hA8 : md_A Z M_5 kd' wh' f1 f2 f3 wg pl T := by rw [eM_5]; exact hA9.U hm9
    have hfr : ∀ q : Nat, q ≠ a → M_5 q = M q := fun q h1 => by rw [eM_5]; exact mm_U_ne h1
    refine lv_iconst (v := 0) hx hb dX2_match_124 (by decide) ?_
    exact mm_reti hx hb hr hlk hM hS (Or.inr ⟨rfl, ⟨1, hc_4, Or.inl ⟨hb5.symm, rfl⟩⟩, hA8, fun q h1 _ => hfr q h1⟩) dX2_match_125 (Nat.le_of_ble_eq_true rfl) (Nat.le_of_ble_eq_true rfl)
  · skip
    refine lv_if_eq (tgt := 53) hx hb dX2_match_29 (by decide) (fun h9 => absurd h9 (by decide)) (fun _ => ?_)
    refine lv_aload_n hx hb dX2_match_32 rfl (lv_at hl 1 rfl) ?_
    refine lv_iload_n hx hb dX2_match_33 rfl (lv_at hl 4 rfl) ?_
    refine mm_callV (As := [.int i1]) (rest := []) ⟨hx, hb, hml, hown, hts⟩ hE hST hA (c_X2_isOne l Z hm9 hA9) (cwV 1 hts (lw_V q2460 q2462 qs31 q54 q2463) rfl rfl rfl (by decide +kernel) ⟨(Nat.le_of_ble_eq_true rfl), (Nat.le_of_ble_eq_true rfl)⟩) hM hS mm_cX2 hm9 rfl hl.1 (Nat.le_of_ble_eq_true rfl) dX2_match_34 rfl ⟨(Nat.le_of_ble_eq_true rfl), (Nat.le_of_ble_eq_true rfl)⟩ (fun _ _ _ _ _ _ h9 => h9.elim) (fun v_1 M_2 H locs hp_3 hM hS => ?_)
    obtain ⟨rfl, eM_2⟩ := hp_3
    rw [eM_2] at hM
    rw [show (mm_b (pt_is T false i1) : Int32) = mm_b p1 from by rw [hp1]]
    cases p1
    · skip
      refine lv_if_eq (tgt := 53) hx hb dX2_match_37 (by decide) (fun _ => ?_) (fun h9 => absurd (by decide) h9)
      refine lv_iconst (v := 0) hx hb dX2_match_53 (by decide) ?_
      refine lv_istore hx hb dX2_match_54 hl (by decide) rfl (fun ls hl => ?_)
      replace hl : lv_has ls 7 [(6, .int 0), (5, .int (mm_b true)), (0, .ref a), (1, .int lb), (2, .int nm), (3, .int i1), (4, .int i2)] := hl
      refine lv_aload_n hx hb dX2_match_56 rfl (lv_at hl 2 rfl) ?_
      refine lv_iload hx hb dX2_match_57 (lv_at hl 1 rfl) ?_
      refine lv_iload hx hb dX2_match_59 (lv_at hl 0 rfl) ?_
      refine lv_iload hx hb dX2_match_61 (lv_at hl 0 rfl) ?_
      refine lv_if_eq (tgt := 98) hx hb dX2_match_63 (by decide) (fun _ => ?_) (fun h9 => absurd (by decide) h9)
      refine lv_iconst (v := 0) hx hb dX2_match_98 (by decide) ?_
      refine mm_callV (As := [.int (mm_b true), .int (mm_b false), .int (mm_b false)]) (rest := []) ⟨hx, hb, hml, hown, hts⟩ hE hST hA (c_X2_goes l Z (b1 := true) (b2 := false) (b3 := false) hm9) (cwV 3 hts (lw_V q2441 q2443 qs28 q54 q2444) rfl rfl rfl (by decide +kernel) ⟨(Nat.le_of_ble_eq_true rfl), (Nat.le_of_ble_eq_true rfl)⟩) hM hS mm_cX2 hm9 rfl hl.1 (Nat.le_of_ble_eq_true rfl) dX2_match_99 rfl ⟨(Nat.le_of_ble_eq_true rfl), (Nat.le_of_ble_eq_true rfl)⟩ (fun _ _ _ _ _ _ h9 => h9.elim) (fun v_4 M_5 H locs hp_6 hM hS => ?_)
      obtain ⟨rfl, e0M_5⟩ := hp_6
      have eM_5 : M_5 = mm_U M a (.inr (1, [.int (nI T.length), .ref kd', .ref wh', .ref f1, .ref f2, .ref f3, .ref wg, .int ea, .int sp, va_rf rt, .int 2, .int ak, .int wr, .ref pl, .int tk, .int (mm_b fa), .long st])) := e0M_5
      rw [eM_5] at hM
      have hc_7 : (mm_U M a (.inr (1, [.int (nI T.length), .ref kd', .ref wh', .ref f1, .ref f2, .ref f3, .ref wg, .int ea, .int sp, va_rf rt, .int 2, .int ak, .int wr, .ref pl, .int tk, .int (mm_b fa), .long st]))) a = some (.inr (1, [.int (nI T.length), .ref kd', .ref wh', .ref f1, .ref f2, .ref f3, .ref wg, .int ea, .int sp, va_rf rt, .int 2, .int ak, .int wr, .ref pl, .int tk, .int (mm_b fa), .long st])) := mm_U_eq
      obtain ⟨M_8, eM_8⟩ : ∃ z, z = mm_U M a (.inr (1, [.int (nI T.length), .ref kd', .ref wh', .ref f1, .ref f2, .ref f3, .ref wg, .int ea, .int sp, va_rf rt, .int 2, .int ak, .int wr, .ref pl, .int tk, .int (mm_b fa), .long st])) := ⟨_, rfl⟩
      rw [← eM_8] at hM hc_7
      refine lv_if_eq (tgt := 124) hx hb dX2_match_102 (by decide) (fun _ => ?_) (fun h9 => absurd (by decide) h9)
      have hA8 : md_A Z M_8 kd' wh' f1 f2 f3 wg pl T := by rw [eM_8]; exact hA9.U hm9
      have hfr : ∀ q : Nat, q ≠ a → M_8 q = M q := fun q h1 => by rw [eM_8]; exact mm_U_ne h1
      refine lv_iconst (v := 0) hx hb dX2_match_124 (by decide) ?_
      exact mm_reti hx hb hr hlk hM hS (Or.inr ⟨rfl, ⟨2, hc_7, (Or.inr (Or.inl ⟨hb5.symm, fun ps hps => (by have h9 := pt_is_iff.2 (pt_p_1 hps); rw [← hp1] at h9; cases h9), rfl⟩))⟩, hA8, fun q h1 _ => hfr q h1⟩) dX2_match_125 (Nat.le_of_ble_eq_true rfl) (Nat.le_of_ble_eq_true rfl)
    · skip
      refine lv_if_eq (tgt := 53) hx hb dX2_match_37 (by decide) (fun h9 => absurd h9 (by decide)) (fun _ => ?_)
      obtain ⟨k1, hk1, rfl, hd1⟩ := pt_is_iff.1 hp1.symm
      refine lv_aload_n hx hb dX2_match_40 rfl (lv_at hl 1 rfl) ?_
      refine lv_iload hx hb dX2_match_41 (lv_at hl 5 rfl) ?_
      refine mm_callV (As := [.int i2]) (rest := []) ⟨hx, hb, hml, hown, hts⟩ hE hST hA (c_X2_isCases l Z hm9 hA9) (cwV 1 hts (lw_V q2472 q2474 qs33 q54 q2475) rfl rfl rfl (by decide +kernel) ⟨(Nat.le_of_ble_eq_true rfl), (Nat.le_of_ble_eq_true rfl)⟩) hM hS mm_cX2 hm9 rfl hl.1 (Nat.le_of_ble_eq_true rfl) dX2_match_43 rfl ⟨(Nat.le_of_ble_eq_true rfl), (Nat.le_of_ble_eq_true rfl)⟩ (fun _ _ _ _ _ _ h9 => h9.elim) (fun v_4 M_5 H locs hp_6 hM hS => ?_)
      obtain ⟨rfl, eM_5⟩ := hp_6
      rw [eM_5] at hM
      rw [show (mm_b (pt_is T true i2) : Int32) = mm_b p2 from by rw [hp2]]
      cases p2
      · skip
        refine lv_if_eq (tgt := 53) hx hb dX2_match_46 (by decide) (fun _ => ?_) (fun h9 => absurd (by decide) h9)
        refine lv_iconst (v := 0) hx hb dX2_match_53 (by decide) ?_
        refine lv_istore hx hb dX2_match_54 hl (by decide) rfl (fun ls hl => ?_)
        replace hl : lv_has ls 7 [(6, .int 0), (5, .int (mm_b true)), (0, .ref a), (1, .int lb), (2, .int nm), (3, .int (nI k1)), (4, .int i2)] := hl
        refine lv_aload_n hx hb dX2_match_56 rfl (lv_at hl 2 rfl) ?_
        refine lv_iload hx hb dX2_match_57 (lv_at hl 1 rfl) ?_
        refine lv_iload hx hb dX2_match_59 (lv_at hl 0 rfl) ?_
        refine lv_iload hx hb dX2_match_61 (lv_at hl 0 rfl) ?_
        refine lv_if_eq (tgt := 98) hx hb dX2_match_63 (by decide) (fun _ => ?_) (fun h9 => absurd (by decide) h9)
        refine lv_iconst (v := 0) hx hb dX2_match_98 (by decide) ?_
        refine mm_callV (As := [.int (mm_b true), .int (mm_b false), .int (mm_b false)]) (rest := []) ⟨hx, hb, hml, hown, hts⟩ hE hST hA (c_X2_goes l Z (b1 := true) (b2 := false) (b3 := false) hm9) (cwV 3 hts (lw_V q2441 q2443 qs28 q54 q2444) rfl rfl rfl (by decide +kernel) ⟨(Nat.le_of_ble_eq_true rfl), (Nat.le_of_ble_eq_true rfl)⟩) hM hS mm_cX2 hm9 rfl hl.1 (Nat.le_of_ble_eq_true rfl) dX2_match_99 rfl ⟨(Nat.le_of_ble_eq_true rfl), (Nat.le_of_ble_eq_true rfl)⟩ (fun _ _ _ _ _ _ h9 => h9.elim) (fun v_7 M_8 H locs hp_9 hM hS => ?_)
        obtain ⟨rfl, e0M_8⟩ := hp_9
        have eM_8 : M_8 = mm_U M a (.inr (1, [.int (nI T.length), .ref kd', .ref wh', .ref f1, .ref f2, .ref f3, .ref wg, .int ea, .int sp, va_rf rt, .int 2, .int ak, .int wr, .ref pl, .int tk, .int (mm_b fa), .long st])) := e0M_8
        rw [eM_8] at hM
        have hc_10 : (mm_U M a (.inr (1, [.int (nI T.length), .ref kd', .ref wh', .ref f1, .ref f2, .ref f3, .ref wg, .int ea, .int sp, va_rf rt, .int 2, .int ak, .int wr, .ref pl, .int tk, .int (mm_b fa), .long st]))) a = some (.inr (1, [.int (nI T.length), .ref kd', .ref wh', .ref f1, .ref f2, .ref f3, .ref wg, .int ea, .int sp, va_rf rt, .int 2, .int ak, .int wr, .ref pl, .int tk, .int (mm_b fa), .long st])) := mm_U_eq
        obtain ⟨M_11, eM_11⟩ : ∃ z, z = mm_U M a (.inr (1, [.int (nI T.length), .ref kd', .ref wh', .ref f1, .ref f2, .ref f3, .ref wg, .int ea, .int sp, va_rf rt, .int 2, .int ak, .int wr, .ref pl, .int tk, .int (mm_b fa), .long st])) := ⟨_, rfl⟩
        rw [← eM_11] at hM hc_10
        refine lv_if_eq (tgt := 124) hx hb dX2_match_102 (by decide) (fun _ => ?_) (fun h9 => absurd (by decide) h9)
        have hA8 : md_A Z M_11 kd' wh' f1 f2 f3 wg pl T := by rw [eM_11]; exact hA9.U hm9
        have hfr : ∀ q : Nat, q ≠ a → M_11 q = M q := fun q h1 => by rw [eM_11]; exact mm_U_ne h1
        refine lv_iconst (v := 0) hx hb dX2_match_124 (by decide) ?_
        exact mm_reti hx hb hr hlk hM hS (Or.inr ⟨rfl, ⟨2, hc_10, (Or.inr (Or.inl ⟨hb5.symm, fun ps hps => (by have h9 := pt_is_iff.2 (pt_p_2 hps); rw [← hp2] at h9; cases h9), rfl⟩))⟩, hA8, fun q h1 _ => hfr q h1⟩) dX2_match_125 (Nat.le_of_ble_eq_true rfl) (Nat.le_of_ble_eq_true rfl)
      · skip
        refine lv_if_eq (tgt := 53) hx hb dX2_match_46 (by decide) (fun h9 => absurd h9 (by decide)) (fun _ => ?_)
        obtain ⟨k2, hk2, rfl, hd2⟩ := pt_is_iff.1 hp2.symm
        refine lv_iconst (v := 1) hx hb dX2_match_49 (by decide) ?_
        refine lv_goto (tgt := 54) hx hb dX2_match_50 (by decide) ?_
        refine lv_istore hx hb dX2_match_54 hl (by decide) rfl (fun ls hl => ?_)
        replace hl : lv_has ls 7 [(6, .int 1), (5, .int (mm_b true)), (0, .ref a), (1, .int lb), (2, .int nm), (3, .int (nI k1)), (4, .int (nI k2))] := hl
        refine lv_aload_n hx hb dX2_match_56 rfl (lv_at hl 2 rfl) ?_
        refine lv_iload hx hb dX2_match_57 (lv_at hl 1 rfl) ?_
        refine lv_iload hx hb dX2_match_59 (lv_at hl 0 rfl) ?_
        refine lv_iload hx hb dX2_match_61 (lv_at hl 0 rfl) ?_
        refine lv_if_eq (tgt := 98) hx hb dX2_match_63 (by decide) (fun h9 => absurd h9 (by decide)) (fun _ => ?_)
        refine lv_aload_n hx hb dX2_match_66 rfl (lv_at hl 2 rfl) ?_
        refine va_get (D := Z.1) (ci := 1) (v := .int (nI T.length)) (C := RX2) (T := TX2) (N := 17) hx hb hts in_X2 hown hE.1 (hM.at hm9) 0 rfl mm_cX2 0 (by decide) (hts _ q2378) (fun _ h9 => h9) rfl dX2_match_67 ?_
        refine lv_bipush (v := 120) hx hb dX2_match_70 (by decide) ?_
        refine lv_icmp_ge (tgt := 98) hx hb dX2_match_72 (by decide) (fun c_7 => ?_) (fun c_7 => ?_)
        · skip
          refine lv_iconst (v := 0) hx hb dX2_match_98 (by decide) ?_
          refine mm_callV (As := [.int (mm_b true), .int (mm_b true), .int (mm_b false)]) (rest := []) ⟨hx, hb, hml, hown, hts⟩ hE hST hA (c_X2_goes l Z (b1 := true) (b2 := true) (b3 := false) hm9) (cwV 3 hts (lw_V q2441 q2443 qs28 q54 q2444) rfl rfl rfl (by decide +kernel) ⟨(Nat.le_of_ble_eq_true rfl), (Nat.le_of_ble_eq_true rfl)⟩) hM hS mm_cX2 hm9 rfl hl.1 (Nat.le_of_ble_eq_true rfl) dX2_match_99 rfl ⟨(Nat.le_of_ble_eq_true rfl), (Nat.le_of_ble_eq_true rfl)⟩ (fun _ _ _ _ _ _ h9 => h9.elim) (fun v_8 M_9 H locs hp_10 hM hS => ?_)
          obtain ⟨rfl, e0M_9⟩ := hp_10
          have eM_9 : M_9 = mm_U M a (.inr (1, [.int (nI T.length), .ref kd', .ref wh', .ref f1, .ref f2, .ref f3, .ref wg, .int ea, .int sp, va_rf rt, .int 3, .int ak, .int wr, .ref pl, .int tk, .int (mm_b fa), .long st])) := e0M_9
          rw [eM_9] at hM
          have hc_11 : (mm_U M a (.inr (1, [.int (nI T.length), .ref kd', .ref wh', .ref f1, .ref f2, .ref f3, .ref wg, .int ea, .int sp, va_rf rt, .int 3, .int ak, .int wr, .ref pl, .int tk, .int (mm_b fa), .long st]))) a = some (.inr (1, [.int (nI T.length), .ref kd', .ref wh', .ref f1, .ref f2, .ref f3, .ref wg, .int ea, .int sp, va_rf rt, .int 3, .int ak, .int wr, .ref pl, .int tk, .int (mm_b fa), .long st])) := mm_U_eq
          obtain ⟨M_12, eM_12⟩ : ∃ z, z = mm_U M a (.inr (1, [.int (nI T.length), .ref kd', .ref wh', .ref f1, .ref f2, .ref f3, .ref wg, .int ea, .int sp, va_rf rt, .int 3, .int ak, .int wr, .ref pl, .int tk, .int (mm_b fa), .long st])) := ⟨_, rfl⟩
          rw [← eM_12] at hM hc_11
          refine lv_if_eq (tgt := 124) hx hb dX2_match_102 (by decide) (fun _ => ?_) (fun h9 => absurd (by decide) h9)
          have hA8 : md_A Z M_12 kd' wh' f1 f2 f3 wg pl T := by rw [eM_12]; exact hA9.U hm9
          have hfr : ∀ q : Nat, q ≠ a → M_12 q = M q := fun q h1 => by rw [eM_12]; exact mm_U_ne h1
          refine lv_iconst (v := 0) hx hb dX2_match_124 (by decide) ?_
          exact mm_reti hx hb hr hlk hM hS (Or.inr ⟨rfl, ⟨3, hc_11, (Or.inr (Or.inr ⟨hb5.symm, [k1, k2], ⟨⟨hk1, rfl, hd1⟩, ⟨hk2, rfl, hd2⟩, trivial⟩, fun h9 => absurd (nI_lt (b := 120) h9.1 (by omega)) (Int32.not_lt.2 c_7), rfl⟩))⟩, hA8, fun q h1 _ => hfr q h1⟩) dX2_match_125 (Nat.le_of_ble_eq_true rfl) (Nat.le_of_ble_eq_true rfl)
        · skip
          have hw100 := pt_w_b hg30 (ps := [k1, k2]) (Nat.le_of_ble_eq_true rfl)
          refine lv_iconst (v := 1) hx hb dX2_match_75 (by decide) ?_
          refine lv_aload_n hx hb dX2_match_76 rfl (lv_at hl 2 rfl) ?_
          refine lv_iload_n hx hb dX2_match_77 rfl (lv_at hl 5 rfl) ?_
          refine mm_callV (As := [.int (nI k1)]) (rest := [.int 1, .int 1, .int (mm_b true), .ref a]) ⟨hx, hb, hml, hown, hts⟩ hE hST hA (c_X2_weightOf l Z (T := T) (ps := [k1, k2]) (i := 0) hm9 hg5 hl9 hgw (fun j hj => by first | (cases hj; assumption) | (simp at hj))) (cwV 1 hts (lw_V q2449 q2451 qs30 q54 q2452) rfl rfl rfl (by decide +kernel) ⟨(Nat.le_of_ble_eq_true rfl), (Nat.le_of_ble_eq_true rfl)⟩) hM hS mm_cX2 hm9 rfl hl.1 (Nat.le_of_ble_eq_true rfl) dX2_match_78 rfl ⟨(Nat.le_of_ble_eq_true rfl), (Nat.le_of_ble_eq_true rfl)⟩ (fun _ _ _ _ _ _ h9 => h9.elim) (fun v_8 M_9 H locs hp_10 hM hS => ?_)
          obtain ⟨rfl, eM_9⟩ := hp_10
          rw [eM_9] at hM
          refine lv_iadd hx hb dX2_match_81 ?_
          rw [show (1 + (nI (pt_wi T [k1, k2] 0)) : Int32) = nI (1 + pt_wi T [k1, k2] 0) from by rw [show (1 : Int32) = nI 1 from by decide, nI_add]]
          refine lv_aload_n hx hb dX2_match_82 rfl (lv_at hl 2 rfl) ?_
          refine lv_iload hx hb dX2_match_83 (lv_at hl 6 rfl) ?_
          refine mm_callV (As := [.int (nI k2)]) (rest := [.int (nI (1 + pt_wi T [k1, k2] 0)), .int 1, .int (mm_b true), .ref a]) ⟨hx, hb, hml, hown, hts⟩ hE hST hA (c_X2_weightOf l Z (T := T) (ps := [k1, k2]) (i := 1) hm9 hg5 hl9 hgw (fun j hj => by first | (cases hj; assumption) | (simp at hj))) (cwV 1 hts (lw_V q2449 q2451 qs30 q54 q2452) rfl rfl rfl (by decide +kernel) ⟨(Nat.le_of_ble_eq_true rfl), (Nat.le_of_ble_eq_true rfl)⟩) hM hS mm_cX2 hm9 rfl hl.1 (Nat.le_of_ble_eq_true rfl) dX2_match_85 rfl ⟨(Nat.le_of_ble_eq_true rfl), (Nat.le_of_ble_eq_true rfl)⟩ (fun _ _ _ _ _ _ h9 => h9.elim) (fun v_11 M_12 H locs hp_13 hM hS => ?_)
          obtain ⟨rfl, eM_12⟩ := hp_13
          rw [eM_12] at hM
          refine lv_iadd hx hb dX2_match_88 ?_
          rw [show ((nI (1 + pt_wi T [k1, k2] 0)) + (nI (pt_wi T [k1, k2] 1)) : Int32) = nI (1 + pt_wi T [k1, k2] 0 + pt_wi T [k1, k2] 1) from nI_add _ _]
          rw [show (nI (1 + pt_wi T [k1, k2] 0 + pt_wi T [k1, k2] 1) : Int32) = nI (pt_w T [k1, k2]) from congrArg nI (pt_w_sum (ps := [k1, k2]) (Nat.le_of_ble_eq_true rfl))]
          refine lv_bipush (v := 30) hx hb dX2_match_89 (by decide) ?_
          refine lv_icmp_gt (tgt := 98) hx hb dX2_match_91 (by decide) (fun c_14 => ?_) (fun c_14 => ?_)
          · skip
            refine lv_iconst (v := 0) hx hb dX2_match_98 (by decide) ?_
            refine mm_callV (As := [.int (mm_b true), .int (mm_b true), .int (mm_b false)]) (rest := []) ⟨hx, hb, hml, hown, hts⟩ hE hST hA (c_X2_goes l Z (b1 := true) (b2 := true) (b3 := false) hm9) (cwV 3 hts (lw_V q2441 q2443 qs28 q54 q2444) rfl rfl rfl (by decide +kernel) ⟨(Nat.le_of_ble_eq_true rfl), (Nat.le_of_ble_eq_true rfl)⟩) hM hS mm_cX2 hm9 rfl hl.1 (Nat.le_of_ble_eq_true rfl) dX2_match_99 rfl ⟨(Nat.le_of_ble_eq_true rfl), (Nat.le_of_ble_eq_true rfl)⟩ (fun _ _ _ _ _ _ h9 => h9.elim) (fun v_15 M_16 H locs hp_17 hM hS => ?_)
            obtain ⟨rfl, e0M_16⟩ := hp_17
            have eM_16 : M_16 = mm_U M a (.inr (1, [.int (nI T.length), .ref kd', .ref wh', .ref f1, .ref f2, .ref f3, .ref wg, .int ea, .int sp, va_rf rt, .int 3, .int ak, .int wr, .ref pl, .int tk, .int (mm_b fa), .long st])) := e0M_16
            rw [eM_16] at hM
            have hc_18 : (mm_U M a (.inr (1, [.int (nI T.length), .ref kd', .ref wh', .ref f1, .ref f2, .ref f3, .ref wg, .int ea, .int sp, va_rf rt, .int 3, .int ak, .int wr, .ref pl, .int tk, .int (mm_b fa), .long st]))) a = some (.inr (1, [.int (nI T.length), .ref kd', .ref wh', .ref f1, .ref f2, .ref f3, .ref wg, .int ea, .int sp, va_rf rt, .int 3, .int ak, .int wr, .ref pl, .int tk, .int (mm_b fa), .long st])) := mm_U_eq
            obtain ⟨M_19, eM_19⟩ : ∃ z, z = mm_U M a (.inr (1, [.int (nI T.length), .ref kd', .ref wh', .ref f1, .ref f2, .ref f3, .ref wg, .int ea, .int sp, va_rf rt, .int 3, .int ak, .int wr, .ref pl, .int tk, .int (mm_b fa), .long st])) := ⟨_, rfl⟩
            rw [← eM_19] at hM hc_18
            refine lv_if_eq (tgt := 124) hx hb dX2_match_102 (by decide) (fun _ => ?_) (fun h9 => absurd (by decide) h9)
            have hA8 : md_A Z M_19 kd' wh' f1 f2 f3 wg pl T := by rw [eM_19]; exact hA9.U hm9
            have hfr : ∀ q : Nat, q ≠ a → M_19 q = M q := fun q h1 => by rw [eM_19]; exact mm_U_ne h1
            refine lv_iconst (v := 0) hx hb dX2_match_124 (by decide) ?_
            exact mm_reti hx hb hr hlk hM hS (Or.inr ⟨rfl, ⟨3, hc_18, (Or.inr (Or.inr ⟨hb5.symm, [k1, k2], ⟨⟨hk1, rfl, hd1⟩, ⟨hk2, rfl, hd2⟩, trivial⟩, fun h9 => absurd (nI_le (b := 30) h9.2 (by omega)) (Int32.not_le.2 c_14), rfl⟩))⟩, hA8, fun q h1 _ => hfr q h1⟩) dX2_match_125 (Nat.le_of_ble_eq_true rfl) (Nat.le_of_ble_eq_true rfl)
          · skip
            have hok : T.length < 120 ∧ pt_w T [k1, k2] ≤ 30 := ⟨(nI_ltI (b := 120) (by omega) (by omega)).1 (Int32.not_le.1 c_7), (nI_leI (b := 30) (by omega) (by omega)).1 (Int32.not_lt.1 c_14)⟩
            refine lv_iconst (v := 1) hx hb dX2_match_94 (by decide) ?_
            refine lv_goto (tgt := 99) hx hb dX2_match_95 (by decide) ?_
            refine mm_callV (As := [.int (mm_b true), .int (mm_b true), .int (mm_b true)]) (rest := []) ⟨hx, hb, hml, hown, hts⟩ hE hST hA (c_X2_goes l Z (b1 := true) (b2 := true) (b3 := true) hm9) (cwV 3 hts (lw_V q2441 q2443 qs28 q54 q2444) rfl rfl rfl (by decide +kernel) ⟨(Nat.le_of_ble_eq_true rfl), (Nat.le_of_ble_eq_true rfl)⟩) hM hS mm_cX2 hm9 rfl hl.1 (Nat.le_of_ble_eq_true rfl) dX2_match_99 rfl ⟨(Nat.le_of_ble_eq_true rfl), (Nat.le_of_ble_eq_true rfl)⟩ (fun _ _ _ _ _ _ h9 => h9.elim) (fun v_15 M_16 H locs hp_17 hM hS => ?_)
            obtain ⟨rfl, e0M_16⟩ := hp_17
            have eM_16 : M_16 = mm_U M a (.inr (1, [.int (nI T.length), .ref kd', .ref wh', .ref f1, .ref f2, .ref f3, .ref wg, .int ea, .int sp, va_rf rt, .int 0, .int ak, .int wr, .ref pl, .int tk, .int (mm_b fa), .long st])) := e0M_16
            rw [eM_16] at hM
            have hc_18 : (mm_U M a (.inr (1, [.int (nI T.length), .ref kd', .ref wh', .ref f1, .ref f2, .ref f3, .ref wg, .int ea, .int sp, va_rf rt, .int 0, .int ak, .int wr, .ref pl, .int tk, .int (mm_b fa), .long st]))) a = some (.inr (1, [.int (nI T.length), .ref kd', .ref wh', .ref f1, .ref f2, .ref f3, .ref wg, .int ea, .int sp, va_rf rt, .int 0, .int ak, .int wr, .ref pl, .int tk, .int (mm_b fa), .long st])) := mm_U_eq
            obtain ⟨M_19, eM_19⟩ : ∃ z, z = mm_U M a (.inr (1, [.int (nI T.length), .ref kd', .ref wh', .ref f1, .ref f2, .ref f3, .ref wg, .int ea, .int sp, va_rf rt, .int 0, .int ak, .int wr, .ref pl, .int tk, .int (mm_b fa), .long st])) := ⟨_, rfl⟩
            rw [← eM_19] at hM hc_18
            refine lv_if_eq (tgt := 124) hx hb dX2_match_102 (by decide) (fun h9 => absurd h9 (by decide)) (fun _ => ?_)
            have hA8 : md_A Z M_19 kd' wh' f1 f2 f3 wg pl T := by rw [eM_19]; exact hA9.U hm9
            have hfr : ∀ q : Nat, q ≠ a → M_19 q = M q := fun q h1 => by rw [eM_19]; exact mm_U_ne h1
            refine lv_aload_n hx hb dX2_match_105 rfl (lv_at hl 2 rfl) ?_
            refine lv_bipush (v := 17) hx hb dX2_match_106 (by decide) ?_
            refine lv_bipush (v := 10) hx hb dX2_match_108 (by decide) ?_
            refine lv_iload_n hx hb dX2_match_110 rfl (lv_at hl 3 rfl) ?_
            refine lv_imul hx hb dX2_match_111 ?_
            refine lv_iload_n hx hb dX2_match_112 rfl (lv_at hl 4 rfl) ?_
            refine lv_iadd hx hb dX2_match_113 ?_
            refine lv_iload_n hx hb dX2_match_114 rfl (lv_at hl 5 rfl) ?_
            refine lv_iload hx hb dX2_match_115 (lv_at hl 6 rfl) ?_
            refine lv_iconst (v := -1) hx hb dX2_match_117 (by decide) ?_
            have hmk : ∀ j ∈ ([k1, k2] : List Nat), j < T.length := by intro j hj; simp only [List.mem_cons, List.not_mem_nil, or_false] at hj; rcases hj with rfl | rfl <;> assumption
            refine mm_callV (As := [.int 17, .int ((10 * lb) + nm), .int (nI k1), .int (nI k2), .int (-1)]) (rest := []) ⟨hx, hb, hml, hown, hts⟩ hE hST hA (c_X2_makes l Z (r := (17, lb, nm, [k1, k2], pt_w T [k1, k2])) hc_18 hA8 hok.1 (by decide : 2 ≤ 3) hmk rfl (fun _ _ => by simp [pm_wh]) rfl hok.2) (cwV 5 hts (lw_V q2445 q2447 qs29 q54 q2448) rfl rfl rfl (by decide +kernel) ⟨(Nat.le_of_ble_eq_true rfl), (Nat.le_of_ble_eq_true rfl)⟩) hM hS mm_cX2 hc_18 rfl hl.1 (Nat.le_of_ble_eq_true rfl) dX2_match_118 rfl ⟨(Nat.le_of_ble_eq_true rfl), (Nat.le_of_ble_eq_true rfl)⟩ (fun _ _ _ _ _ _ h9 => h9.elim) (fun v_20 M_21 H locs hp_22 hM hS => ?_)
            obtain ⟨rfl, hm7, hA7, hfr7⟩ := hp_22
            refine lv_goto (tgt := 125) hx hb dX2_match_121 (by decide) ?_
            exact mm_reti hx hb hr hlk hM hS (Or.inl ⟨hb5.symm, [k1, k2], ⟨⟨hk1, rfl, hd1⟩, ⟨hk2, rfl, hd2⟩, trivial⟩, hok, rfl, hm7, hA7, fun q h1 h2 => (hfr7 q h1 h2).trans (hfr q h1)⟩) dX2_match_125 (Nat.le_of_ble_eq_true rfl) (Nat.le_of_ble_eq_true rfl)
set_option maxHeartbeats 4000000 in
set_option maxRecDepth 100000 in
theorem c_X2_made (l : Launch) (Z : mm_G) {M : mm_M} {a kd' wh' f1 f2 f3 wg pl : Nat} {ea sp th ak wr tk : Int32} {rt : Option Nat} {fa : Bool} {st : Int64} {T : List pt_R} (hm9 : M a = some (md_E (nI T.length) kd' wh' f1 f2 f3 wg ea sp rt th ak wr pl tk fa st)) (hA9 : md_A Z M kd' wh' f1 f2 f3 wg pl T) {kd i1 i2 i3 : Int32} : mm_C l Z yX2_made (ws_ yX2_made cX2_made 8 (some .int)) { frames := 4, cells := 0, slots := 0, locals := 160 } [.ref a, .int kd, .int i1, .int i2, .int i3] M (fun v M' => (pm_can kd = true ∧ ∃ ps : List Nat, pt_p T (pm_spec kd i1 i2 i3) ps ∧ (T.length < 120 ∧ pt_w T ps ≤ 30) ∧ v = some (.int (nI T.length)) ∧ M' a = some (md_E (nI (T.length + 1)) kd' wh' f1 f2 f3 wg ea sp rt 0 ak wr pl tk fa st) ∧ md_A Z M' kd' wh' f1 f2 f3 wg pl (T ++ [(kd, 0, 0, ps, pt_w T ps)]) ∧ (∀ q : Nat, q ≠ a → q ∉ [kd', wh', f1, f2, f3, wg] → M' q = M q)) ∨ (v = some (.int 0) ∧ (∃ code : Int32, M' a = some (md_E (nI T.length) kd' wh' f1 f2 f3 wg ea sp rt code ak wr pl tk fa st) ∧ ((pm_can kd = false ∧ code = 1) ∨ (pm_can kd = true ∧ (∀ ps, ¬ pt_p T (pm_spec kd i1 i2 i3) ps) ∧ code = 2) ∨ (pm_can kd = true ∧ ∃ ps, pt_p T (pm_spec kd i1 i2 i3) ps ∧ ¬ (T.length < 120 ∧ pt_w T ps ≤ 30) ∧ code = 3))) ∧ md_A Z M' kd' wh' f1 f2 f3 wg pl T ∧ (∀ q : Nat, q ≠ a → q ∉ [kd', wh', f1, f2, f3, wg] → M' q = M q))) mm_nx := by
  refine mm_ofW (cc := cX2_made) (maxL := 8) (ret := (some .int)) (by decide) rfl (Nat.le_of_ble_eq_true rfl) ?_
  intro p e s m below meth c A ls hx hb hr hlk hml hown hmn hts htab hE hST hA hM hS hl
  replace hl : lv_has ls 8 [(0, .ref a), (1, .int kd), (2, .int i1), (3, .int i2), (4, .int i3)] := hl
  obtain ⟨g5, hg5, hl9, hgw, hg30⟩ := hA9.par
  obtain ⟨b5, hb5⟩ : ∃ z, z = pm_can kd := ⟨_, rfl⟩
  obtain ⟨p1, hp1⟩ : ∃ z, z = pt_is T false i1 := ⟨_, rfl⟩
  obtain ⟨p2, hp2⟩ : ∃ z, z = pt_is T true i2 := ⟨_, rfl⟩
  obtain ⟨p3, hp3⟩ : ∃ z, z = pt_is T false i2 := ⟨_, rfl⟩
  obtain ⟨p4, hp4⟩ : ∃ z, z = pt_is T false i3 := ⟨_, rfl⟩
  refine mm_cutW (v0 := mm_b b5) (pc2 := 34) (ls := ls) (rest := []) (M := M) (fun kk => ?_) (fun H locs hM hS => ?_) hM hS
  · skip
    refine lv_iload_n hx hb dX2_made_0 rfl (lv_at hl 1 rfl) ?_
    refine lv_iconst (v := 3) hx hb dX2_made_1 (by decide) ?_
    refine lv_icmp_eq (tgt := 29) hx hb dX2_made_2 (by decide) (fun c_1 => ?_) (fun c_1 => ?_)
    · skip
      refine lv_iconst (v := 1) hx hb dX2_made_29 (by decide) ?_
      refine lv_goto (tgt := 34) hx hb dX2_made_30 (by decide) ?_
      exact kk _ _ _ hM hS (show (mm_b b5 : Int32) = 1 from by (first | (rw [hb5]; (try simp only [mm_b_0] at c_1); simp [pm_can, mm_b, c_1]; done))).symm
    · skip
      refine lv_iload_n hx hb dX2_made_5 rfl (lv_at hl 1 rfl) ?_
      refine lv_bipush (v := 11) hx hb dX2_made_6 (by decide) ?_
      refine lv_icmp_eq (tgt := 29) hx hb dX2_made_8 (by decide) (fun c_2 => ?_) (fun c_2 => ?_)
      · skip
        refine lv_iconst (v := 1) hx hb dX2_made_29 (by decide) ?_
        refine lv_goto (tgt := 34) hx hb dX2_made_30 (by decide) ?_
        exact kk _ _ _ hM hS (show (mm_b b5 : Int32) = 1 from by (first | (rw [hb5]; (try simp only [mm_b_0] at c_1); (try simp only [mm_b_0] at c_2); simp [pm_can, mm_b, c_1, c_2]; done) | exact absurd (c_1.symm.trans c_2) (by decide))).symm
      · skip
        refine lv_iload_n hx hb dX2_made_11 rfl (lv_at hl 1 rfl) ?_
        refine lv_bipush (v := 12) hx hb dX2_made_12 (by decide) ?_
        refine lv_icmp_eq (tgt := 29) hx hb dX2_made_14 (by decide) (fun c_3 => ?_) (fun c_3 => ?_)
        · skip
          refine lv_iconst (v := 1) hx hb dX2_made_29 (by decide) ?_
          refine lv_goto (tgt := 34) hx hb dX2_made_30 (by decide) ?_
          exact kk _ _ _ hM hS (show (mm_b b5 : Int32) = 1 from by (first | (rw [hb5]; (try simp only [mm_b_0] at c_1); (try simp only [mm_b_0] at c_2); (try simp only [mm_b_0] at c_3); simp [pm_can, mm_b, c_1, c_2, c_3]; done) | exact absurd (c_1.symm.trans c_2) (by decide) | exact absurd (c_1.symm.trans c_3) (by decide) | exact absurd (c_2.symm.trans c_3) (by decide))).symm
        · skip
          refine lv_iload_n hx hb dX2_made_17 rfl (lv_at hl 1 rfl) ?_
          refine lv_bipush (v := 13) hx hb dX2_made_18 (by decide) ?_
          refine lv_icmp_eq (tgt := 29) hx hb dX2_made_20 (by decide) (fun c_4 => ?_) (fun c_4 => ?_)
          · skip
            refine lv_iconst (v := 1) hx hb dX2_made_29 (by decide) ?_
            refine lv_goto (tgt := 34) hx hb dX2_made_30 (by decide) ?_
            exact kk _ _ _ hM hS (show (mm_b b5 : Int32) = 1 from by (first | (rw [hb5]; (try simp only [mm_b_0] at c_1); (try simp only [mm_b_0] at c_2); (try simp only [mm_b_0] at c_3); (try simp only [mm_b_0] at c_4); simp [pm_can, mm_b, c_1, c_2, c_3, c_4]; done) | exact absurd (c_1.symm.trans c_2) (by decide) | exact absurd (c_1.symm.trans c_3) (by decide) | exact absurd (c_1.symm.trans c_4) (by decide) | exact absurd (c_2.symm.trans c_3) (by decide) | exact absurd (c_2.symm.trans c_4) (by decide) | exact absurd (c_3.symm.trans c_4) (by decide))).symm
          · skip
            refine lv_iload_n hx hb dX2_made_23 rfl (lv_at hl 1 rfl) ?_
            refine lv_bipush (v := 14) hx hb dX2_made_24 (by decide) ?_
            refine lv_icmp_ne (tgt := 33) hx hb dX2_made_26 (by decide) (fun c_5 => ?_) (fun c_5 => ?_)
            · skip
              refine lv_iconst (v := 0) hx hb dX2_made_33 (by decide) ?_
              exact kk _ _ _ hM hS (show (mm_b b5 : Int32) = 0 from by (first | (rw [hb5]; (try simp only [mm_b_0] at c_1); (try simp only [mm_b_0] at c_2); (try simp only [mm_b_0] at c_3); (try simp only [mm_b_0] at c_4); (try simp only [mm_b_0] at c_5); simp [pm_can, mm_b, c_1, c_2, c_3, c_4, c_5]; done) | exact absurd (c_1.symm.trans c_2) (by decide) | exact absurd (c_1.symm.trans c_3) (by decide) | exact absurd (c_1.symm.trans c_4) (by decide) | exact absurd (c_1.symm.trans c_5) (by decide) | exact absurd (c_2.symm.trans c_3) (by decide) | exact absurd (c_2.symm.trans c_4) (by decide) | exact absurd (c_2.symm.trans c_5) (by decide) | exact absurd (c_3.symm.trans c_4) (by decide) | exact absurd (c_3.symm.trans c_5) (by decide) | exact absurd (c_4.symm.trans c_5) (by decide))).symm
            · skip
              refine lv_iconst (v := 1) hx hb dX2_made_29 (by decide) ?_
              refine lv_goto (tgt := 34) hx hb dX2_made_30 (by decide) ?_
              exact kk _ _ _ hM hS (show (mm_b b5 : Int32) = 1 from by (first | (rw [hb5]; (try simp only [mm_b_0] at c_1); (try simp only [mm_b_0] at c_2); (try simp only [mm_b_0] at c_3); (try simp only [mm_b_0] at c_4); (try simp only [mm_b_0] at c_5); simp [pm_can, mm_b, c_1, c_2, c_3, c_4, c_5]; done) | exact absurd (c_1.symm.trans c_2) (by decide) | exact absurd (c_1.symm.trans c_3) (by decide) | exact absurd (c_1.symm.trans c_4) (by decide) | exact absurd (c_1.symm.trans c_5) (by decide) | exact absurd (c_2.symm.trans c_3) (by decide) | exact absurd (c_2.symm.trans c_4) (by decide) | exact absurd (c_2.symm.trans c_5) (by decide) | exact absurd (c_3.symm.trans c_4) (by decide) | exact absurd (c_3.symm.trans c_5) (by decide) | exact absurd (c_4.symm.trans c_5) (by decide))).symm
  refine lv_istore hx hb dX2_made_34 hl (by decide) rfl (fun ls hl => ?_)
  replace hl : lv_has ls 8 [(5, .int (mm_b b5)), (0, .ref a), (1, .int kd), (2, .int i1), (3, .int i2), (4, .int i3)] := hl
  refine lv_iload hx hb dX2_made_36 (lv_at hl 0 rfl) ?_
  cases b5
  · skip
    refine lv_if_eq (tgt := 93) hx hb dX2_made_38 (by decide) (fun _ => ?_) (fun h9 => absurd (by decide) h9)
    by_cases h12 : kd = 12
    · skip
      refine lv_iconst (v := 0) hx hb dX2_made_93 (by decide) ?_
      refine lv_istore hx hb dX2_made_94 hl (by decide) rfl (fun ls hl => ?_)
      replace hl : lv_has ls 8 [(6, .int 0), (5, .int (mm_b false)), (0, .ref a), (1, .int kd), (2, .int i1), (3, .int i2), (4, .int i3)] := hl
      refine lv_iload_n hx hb dX2_made_96 rfl (lv_at hl 3 rfl) ?_
      refine lv_bipush (v := 12) hx hb dX2_made_97 (by decide) ?_
      refine lv_icmp_ne (tgt := 107) hx hb dX2_made_99 (by decide) (fun h9 => absurd h12 h9) (fun _ => ?_)
      refine lv_iload hx hb dX2_made_102 (lv_at hl 6 rfl) ?_
      refine lv_goto (tgt := 108) hx hb dX2_made_104 (by decide) ?_
      refine lv_istore hx hb dX2_made_108 hl (by decide) rfl (fun ls hl => ?_)
      replace hl : lv_has ls 8 [(7, .int i3), (6, .int 0), (5, .int (mm_b false)), (0, .ref a), (1, .int kd), (2, .int i1), (3, .int i2), (4, .int i3)] := hl
      refine lv_aload_n hx hb dX2_made_110 rfl (lv_at hl 3 rfl) ?_
      refine lv_iload hx hb dX2_made_111 (lv_at hl 2 rfl) ?_
      refine lv_iload hx hb dX2_made_113 (lv_at hl 1 rfl) ?_
      refine lv_iload hx hb dX2_made_115 (lv_at hl 1 rfl) ?_
      refine lv_if_eq (tgt := 158) hx hb dX2_made_117 (by decide) (fun _ => ?_) (fun h9 => absurd (by decide) h9)
      refine lv_iconst (v := 0) hx hb dX2_made_158 (by decide) ?_
      refine mm_callV (As := [.int (mm_b false), .int (mm_b false), .int (mm_b false)]) (rest := []) ⟨hx, hb, hml, hown, hts⟩ hE hST hA (c_X2_goes l Z (b1 := false) (b2 := false) (b3 := false) hm9) (cwV 3 hts (lw_V q2441 q2443 qs28 q54 q2444) rfl rfl rfl (by decide +kernel) ⟨(Nat.le_of_ble_eq_true rfl), (Nat.le_of_ble_eq_true rfl)⟩) hM hS mm_cX2 hm9 rfl hl.1 (Nat.le_of_ble_eq_true rfl) dX2_made_159 rfl ⟨(Nat.le_of_ble_eq_true rfl), (Nat.le_of_ble_eq_true rfl)⟩ (fun _ _ _ _ _ _ h9 => h9.elim) (fun v_1 M_2 H locs hp_3 hM hS => ?_)
      obtain ⟨rfl, e0M_2⟩ := hp_3
      have eM_2 : M_2 = mm_U M a (.inr (1, [.int (nI T.length), .ref kd', .ref wh', .ref f1, .ref f2, .ref f3, .ref wg, .int ea, .int sp, va_rf rt, .int 1, .int ak, .int wr, .ref pl, .int tk, .int (mm_b fa), .long st])) := e0M_2
      rw [eM_2] at hM
      have hc_4 : (mm_U M a (.inr (1, [.int (nI T.length), .ref kd', .ref wh', .ref f1, .ref f2, .ref f3, .ref wg, .int ea, .int sp, va_rf rt, .int 1, .int ak, .int wr, .ref pl, .int tk, .int (mm_b fa), .long st]))) a = some (.inr (1, [.int (nI T.length), .ref kd', .ref wh', .ref f1, .ref f2, .ref f3, .ref wg, .int ea, .int sp, va_rf rt, .int 1, .int ak, .int wr, .ref pl, .int tk, .int (mm_b fa), .long st])) := mm_U_eq
      obtain ⟨M_5, eM_5⟩ : ∃ z, z = mm_U M a (.inr (1, [.int (nI T.length), .ref kd', .ref wh', .ref f1, .ref f2, .ref f3, .ref wg, .int ea, .int sp, va_rf rt, .int 1, .int ak, .int wr, .ref pl, .int tk, .int (mm_b fa), .long st])) := ⟨_, rfl⟩
      rw [← eM_5] at hM hc_4
      refine lv_if_eq (tgt := 178) hx hb dX2_made_162 (by decide) (fun _ => ?_) (fun h9 => absurd (by decide) h9)
      have hA8 : md_A Z M_5 kd' wh' f1 f2 f3 wg pl T := by rw [eM_5]; exact hA9.U hm9
      have hfr : ∀ q : Nat, q ≠ a → M_5 q = M q := fun q h1 => by rw [eM_5]; exact mm_U_ne h1
      refine lv_iconst (v := 0) hx hb dX2_made_178 (by decide) ?_
      exact mm_reti hx hb hr hlk hM hS (Or.inr ⟨rfl, ⟨1, hc_4, Or.inl ⟨hb5.symm, rfl⟩⟩, hA8, fun q h1 _ => hfr q h1⟩) dX2_made_179 (Nat.le_of_ble_eq_true rfl) (Nat.le_of_ble_eq_true rfl)
    · skip
      refine lv_iconst (v := 0) hx hb dX2_made_93 (by decide) ?_
      refine lv_istore hx hb dX2_made_94 hl (by decide) rfl (fun ls hl => ?_)
      replace hl : lv_has ls 8 [(6, .int 0), (5, .int (mm_b false)), (0, .ref a), (1, .int kd), (2, .int i1), (3, .int i2), (4, .int i3)] := hl
      refine lv_iload_n hx hb dX2_made_96 rfl (lv_at hl 3 rfl) ?_
      refine lv_bipush (v := 12) hx hb dX2_made_97 (by decide) ?_
      refine lv_icmp_ne (tgt := 107) hx hb dX2_made_99 (by decide) (fun _ => ?_) (fun h9 => absurd h9 h12)
      refine lv_iconst (v := -1) hx hb dX2_made_107 (by decide) ?_
      refine lv_istore hx hb dX2_made_108 hl (by decide) rfl (fun ls hl => ?_)
      replace hl : lv_has ls 8 [(7, .int (-1)), (6, .int 0), (5, .int (mm_b false)), (0, .ref a), (1, .int kd), (2, .int i1), (3, .int i2), (4, .int i3)] := hl
      refine lv_aload_n hx hb dX2_made_110 rfl (lv_at hl 3 rfl) ?_
      refine lv_iload hx hb dX2_made_111 (lv_at hl 2 rfl) ?_
      refine lv_iload hx hb dX2_made_113 (lv_at hl 1 rfl) ?_
      refine lv_iload hx hb dX2_made_115 (lv_at hl 1 rfl) ?_
      refine lv_if_eq (tgt := 158) hx hb dX2_made_117 (by decide) (fun _ => ?_) (fun h9 => absurd (by decide) h9)
      refine lv_iconst (v := 0) hx hb dX2_made_158 (by decide) ?_
      refine mm_callV (As := [.int (mm_b false), .int (mm_b false), .int (mm_b false)]) (rest := []) ⟨hx, hb, hml, hown, hts⟩ hE hST hA (c_X2_goes l Z (b1 := false) (b2 := false) (b3 := false) hm9) (cwV 3 hts (lw_V q2441 q2443 qs28 q54 q2444) rfl rfl rfl (by decide +kernel) ⟨(Nat.le_of_ble_eq_true rfl), (Nat.le_of_ble_eq_true rfl)⟩) hM hS mm_cX2 hm9 rfl hl.1 (Nat.le_of_ble_eq_true rfl) dX2_made_159 rfl ⟨(Nat.le_of_ble_eq_true rfl), (Nat.le_of_ble_eq_true rfl)⟩ (fun _ _ _ _ _ _ h9 => h9.elim) (fun v_1 M_2 H locs hp_3 hM hS => ?_)
      obtain ⟨rfl, e0M_2⟩ := hp_3
      have eM_2 : M_2 = mm_U M a (.inr (1, [.int (nI T.length), .ref kd', .ref wh', .ref f1, .ref f2, .ref f3, .ref wg, .int ea, .int sp, va_rf rt, .int 1, .int ak, .int wr, .ref pl, .int tk, .int (mm_b fa), .long st])) := e0M_2
      rw [eM_2] at hM
      have hc_4 : (mm_U M a (.inr (1, [.int (nI T.length), .ref kd', .ref wh', .ref f1, .ref f2, .ref f3, .ref wg, .int ea, .int sp, va_rf rt, .int 1, .int ak, .int wr, .ref pl, .int tk, .int (mm_b fa), .long st]))) a = some (.inr (1, [.int (nI T.length), .ref kd', .ref wh', .ref f1, .ref f2, .ref f3, .ref wg, .int ea, .int sp, va_rf rt, .int 1, .int ak, .int wr, .ref pl, .int tk, .int (mm_b fa), .long st])) := mm_U_eq
      obtain ⟨M_5, eM_5⟩ : ∃ z, z = mm_U M a (.inr (1, [.int (nI T.length), .ref kd', .ref wh', .ref f1, .ref f2, .ref f3, .ref wg, .int ea, .int sp, va_rf rt, .int 1, .int ak, .int wr, .ref pl, .int tk, .int (mm_b fa), .long st])) := ⟨_, rfl⟩
      rw [← eM_5] at hM hc_4
      refine lv_if_eq (tgt := 178) hx hb dX2_made_162 (by decide) (fun _ => ?_) (fun h9 => absurd (by decide) h9)
      have hA8 : md_A Z M_5 kd' wh' f1 f2 f3 wg pl T := by rw [eM_5]; exact hA9.U hm9
      have hfr : ∀ q : Nat, q ≠ a → M_5 q = M q := fun q h1 => by rw [eM_5]; exact mm_U_ne h1
      refine lv_iconst (v := 0) hx hb dX2_made_178 (by decide) ?_
      exact mm_reti hx hb hr hlk hM hS (Or.inr ⟨rfl, ⟨1, hc_4, Or.inl ⟨hb5.symm, rfl⟩⟩, hA8, fun q h1 _ => hfr q h1⟩) dX2_made_179 (Nat.le_of_ble_eq_true rfl) (Nat.le_of_ble_eq_true rfl)
  · skip
    refine lv_if_eq (tgt := 93) hx hb dX2_made_38 (by decide) (fun h9 => absurd h9 (by decide)) (fun _ => ?_)
    have hits : ∀ ps w, kd ≠ 6 → kd ≠ 15 → (0 : Int32) = pm_wh (kd, 0, 0, ps, w) := by intro ps w _ _; unfold pm_wh; split <;> rfl
    refine lv_aload_n hx hb dX2_made_41 rfl (lv_at hl 1 rfl) ?_
    refine lv_iload_n hx hb dX2_made_42 rfl (lv_at hl 3 rfl) ?_
    refine mm_callV (As := [.int i1]) (rest := []) ⟨hx, hb, hml, hown, hts⟩ hE hST hA (c_X2_isOne l Z hm9 hA9) (cwV 1 hts (lw_V q2460 q2462 qs31 q54 q2463) rfl rfl rfl (by decide +kernel) ⟨(Nat.le_of_ble_eq_true rfl), (Nat.le_of_ble_eq_true rfl)⟩) hM hS mm_cX2 hm9 rfl hl.1 (Nat.le_of_ble_eq_true rfl) dX2_made_43 rfl ⟨(Nat.le_of_ble_eq_true rfl), (Nat.le_of_ble_eq_true rfl)⟩ (fun _ _ _ _ _ _ h9 => h9.elim) (fun v_1 M_2 H locs hp_3 hM hS => ?_)
    obtain ⟨rfl, eM_2⟩ := hp_3
    rw [eM_2] at hM
    rw [show (mm_b (pt_is T false i1) : Int32) = mm_b p1 from by rw [hp1]]
    cases p1
    · skip
      refine lv_if_eq (tgt := 93) hx hb dX2_made_46 (by decide) (fun _ => ?_) (fun h9 => absurd (by decide) h9)
      by_cases h12 : kd = 12
      · skip
        refine lv_iconst (v := 0) hx hb dX2_made_93 (by decide) ?_
        refine lv_istore hx hb dX2_made_94 hl (by decide) rfl (fun ls hl => ?_)
        replace hl : lv_has ls 8 [(6, .int 0), (5, .int (mm_b true)), (0, .ref a), (1, .int kd), (2, .int i1), (3, .int i2), (4, .int i3)] := hl
        refine lv_iload_n hx hb dX2_made_96 rfl (lv_at hl 3 rfl) ?_
        refine lv_bipush (v := 12) hx hb dX2_made_97 (by decide) ?_
        refine lv_icmp_ne (tgt := 107) hx hb dX2_made_99 (by decide) (fun h9 => absurd h12 h9) (fun _ => ?_)
        refine lv_iload hx hb dX2_made_102 (lv_at hl 6 rfl) ?_
        refine lv_goto (tgt := 108) hx hb dX2_made_104 (by decide) ?_
        refine lv_istore hx hb dX2_made_108 hl (by decide) rfl (fun ls hl => ?_)
        replace hl : lv_has ls 8 [(7, .int i3), (6, .int 0), (5, .int (mm_b true)), (0, .ref a), (1, .int kd), (2, .int i1), (3, .int i2), (4, .int i3)] := hl
        refine lv_aload_n hx hb dX2_made_110 rfl (lv_at hl 3 rfl) ?_
        refine lv_iload hx hb dX2_made_111 (lv_at hl 2 rfl) ?_
        refine lv_iload hx hb dX2_made_113 (lv_at hl 1 rfl) ?_
        refine lv_iload hx hb dX2_made_115 (lv_at hl 1 rfl) ?_
        refine lv_if_eq (tgt := 158) hx hb dX2_made_117 (by decide) (fun _ => ?_) (fun h9 => absurd (by decide) h9)
        refine lv_iconst (v := 0) hx hb dX2_made_158 (by decide) ?_
        refine mm_callV (As := [.int (mm_b true), .int (mm_b false), .int (mm_b false)]) (rest := []) ⟨hx, hb, hml, hown, hts⟩ hE hST hA (c_X2_goes l Z (b1 := true) (b2 := false) (b3 := false) hm9) (cwV 3 hts (lw_V q2441 q2443 qs28 q54 q2444) rfl rfl rfl (by decide +kernel) ⟨(Nat.le_of_ble_eq_true rfl), (Nat.le_of_ble_eq_true rfl)⟩) hM hS mm_cX2 hm9 rfl hl.1 (Nat.le_of_ble_eq_true rfl) dX2_made_159 rfl ⟨(Nat.le_of_ble_eq_true rfl), (Nat.le_of_ble_eq_true rfl)⟩ (fun _ _ _ _ _ _ h9 => h9.elim) (fun v_4 M_5 H locs hp_6 hM hS => ?_)
        obtain ⟨rfl, e0M_5⟩ := hp_6
        have eM_5 : M_5 = mm_U M a (.inr (1, [.int (nI T.length), .ref kd', .ref wh', .ref f1, .ref f2, .ref f3, .ref wg, .int ea, .int sp, va_rf rt, .int 2, .int ak, .int wr, .ref pl, .int tk, .int (mm_b fa), .long st])) := e0M_5
        rw [eM_5] at hM
        have hc_7 : (mm_U M a (.inr (1, [.int (nI T.length), .ref kd', .ref wh', .ref f1, .ref f2, .ref f3, .ref wg, .int ea, .int sp, va_rf rt, .int 2, .int ak, .int wr, .ref pl, .int tk, .int (mm_b fa), .long st]))) a = some (.inr (1, [.int (nI T.length), .ref kd', .ref wh', .ref f1, .ref f2, .ref f3, .ref wg, .int ea, .int sp, va_rf rt, .int 2, .int ak, .int wr, .ref pl, .int tk, .int (mm_b fa), .long st])) := mm_U_eq
        obtain ⟨M_8, eM_8⟩ : ∃ z, z = mm_U M a (.inr (1, [.int (nI T.length), .ref kd', .ref wh', .ref f1, .ref f2, .ref f3, .ref wg, .int ea, .int sp, va_rf rt, .int 2, .int ak, .int wr, .ref pl, .int tk, .int (mm_b fa), .long st])) := ⟨_, rfl⟩
        rw [← eM_8] at hM hc_7
        refine lv_if_eq (tgt := 178) hx hb dX2_made_162 (by decide) (fun _ => ?_) (fun h9 => absurd (by decide) h9)
        have hA8 : md_A Z M_8 kd' wh' f1 f2 f3 wg pl T := by rw [eM_8]; exact hA9.U hm9
        have hfr : ∀ q : Nat, q ≠ a → M_8 q = M q := fun q h1 => by rw [eM_8]; exact mm_U_ne h1
        refine lv_iconst (v := 0) hx hb dX2_made_178 (by decide) ?_
        exact mm_reti hx hb hr hlk hM hS (Or.inr ⟨rfl, ⟨2, hc_7, (Or.inr (Or.inl ⟨hb5.symm, fun ps hps => (by obtain ⟨t9, h6⟩ := pm_hd kd i1 i2 i3; rw [h6] at hps; have h9 := pt_is_iff.2 (pt_p_1 hps); rw [← hp1] at h9; cases h9), rfl⟩))⟩, hA8, fun q h1 _ => hfr q h1⟩) dX2_made_179 (Nat.le_of_ble_eq_true rfl) (Nat.le_of_ble_eq_true rfl)
      · skip
        refine lv_iconst (v := 0) hx hb dX2_made_93 (by decide) ?_
        refine lv_istore hx hb dX2_made_94 hl (by decide) rfl (fun ls hl => ?_)
        replace hl : lv_has ls 8 [(6, .int 0), (5, .int (mm_b true)), (0, .ref a), (1, .int kd), (2, .int i1), (3, .int i2), (4, .int i3)] := hl
        refine lv_iload_n hx hb dX2_made_96 rfl (lv_at hl 3 rfl) ?_
        refine lv_bipush (v := 12) hx hb dX2_made_97 (by decide) ?_
        refine lv_icmp_ne (tgt := 107) hx hb dX2_made_99 (by decide) (fun _ => ?_) (fun h9 => absurd h9 h12)
        refine lv_iconst (v := -1) hx hb dX2_made_107 (by decide) ?_
        refine lv_istore hx hb dX2_made_108 hl (by decide) rfl (fun ls hl => ?_)
        replace hl : lv_has ls 8 [(7, .int (-1)), (6, .int 0), (5, .int (mm_b true)), (0, .ref a), (1, .int kd), (2, .int i1), (3, .int i2), (4, .int i3)] := hl
        refine lv_aload_n hx hb dX2_made_110 rfl (lv_at hl 3 rfl) ?_
        refine lv_iload hx hb dX2_made_111 (lv_at hl 2 rfl) ?_
        refine lv_iload hx hb dX2_made_113 (lv_at hl 1 rfl) ?_
        refine lv_iload hx hb dX2_made_115 (lv_at hl 1 rfl) ?_
        refine lv_if_eq (tgt := 158) hx hb dX2_made_117 (by decide) (fun _ => ?_) (fun h9 => absurd (by decide) h9)
        refine lv_iconst (v := 0) hx hb dX2_made_158 (by decide) ?_
        refine mm_callV (As := [.int (mm_b true), .int (mm_b false), .int (mm_b false)]) (rest := []) ⟨hx, hb, hml, hown, hts⟩ hE hST hA (c_X2_goes l Z (b1 := true) (b2 := false) (b3 := false) hm9) (cwV 3 hts (lw_V q2441 q2443 qs28 q54 q2444) rfl rfl rfl (by decide +kernel) ⟨(Nat.le_of_ble_eq_true rfl), (Nat.le_of_ble_eq_true rfl)⟩) hM hS mm_cX2 hm9 rfl hl.1 (Nat.le_of_ble_eq_true rfl) dX2_made_159 rfl ⟨(Nat.le_of_ble_eq_true rfl), (Nat.le_of_ble_eq_true rfl)⟩ (fun _ _ _ _ _ _ h9 => h9.elim) (fun v_4 M_5 H locs hp_6 hM hS => ?_)
        obtain ⟨rfl, e0M_5⟩ := hp_6
        have eM_5 : M_5 = mm_U M a (.inr (1, [.int (nI T.length), .ref kd', .ref wh', .ref f1, .ref f2, .ref f3, .ref wg, .int ea, .int sp, va_rf rt, .int 2, .int ak, .int wr, .ref pl, .int tk, .int (mm_b fa), .long st])) := e0M_5
        rw [eM_5] at hM
        have hc_7 : (mm_U M a (.inr (1, [.int (nI T.length), .ref kd', .ref wh', .ref f1, .ref f2, .ref f3, .ref wg, .int ea, .int sp, va_rf rt, .int 2, .int ak, .int wr, .ref pl, .int tk, .int (mm_b fa), .long st]))) a = some (.inr (1, [.int (nI T.length), .ref kd', .ref wh', .ref f1, .ref f2, .ref f3, .ref wg, .int ea, .int sp, va_rf rt, .int 2, .int ak, .int wr, .ref pl, .int tk, .int (mm_b fa), .long st])) := mm_U_eq
        obtain ⟨M_8, eM_8⟩ : ∃ z, z = mm_U M a (.inr (1, [.int (nI T.length), .ref kd', .ref wh', .ref f1, .ref f2, .ref f3, .ref wg, .int ea, .int sp, va_rf rt, .int 2, .int ak, .int wr, .ref pl, .int tk, .int (mm_b fa), .long st])) := ⟨_, rfl⟩
        rw [← eM_8] at hM hc_7
        refine lv_if_eq (tgt := 178) hx hb dX2_made_162 (by decide) (fun _ => ?_) (fun h9 => absurd (by decide) h9)
        have hA8 : md_A Z M_8 kd' wh' f1 f2 f3 wg pl T := by rw [eM_8]; exact hA9.U hm9
        have hfr : ∀ q : Nat, q ≠ a → M_8 q = M q := fun q h1 => by rw [eM_8]; exact mm_U_ne h1
        refine lv_iconst (v := 0) hx hb dX2_made_178 (by decide) ?_
        exact mm_reti hx hb hr hlk hM hS (Or.inr ⟨rfl, ⟨2, hc_7, (Or.inr (Or.inl ⟨hb5.symm, fun ps hps => (by obtain ⟨t9, h6⟩ := pm_hd kd i1 i2 i3; rw [h6] at hps; have h9 := pt_is_iff.2 (pt_p_1 hps); rw [← hp1] at h9; cases h9), rfl⟩))⟩, hA8, fun q h1 _ => hfr q h1⟩) dX2_made_179 (Nat.le_of_ble_eq_true rfl) (Nat.le_of_ble_eq_true rfl)
    · skip
      refine lv_if_eq (tgt := 93) hx hb dX2_made_46 (by decide) (fun h9 => absurd h9 (by decide)) (fun _ => ?_)
      obtain ⟨k1, hk1, rfl, hd1⟩ := pt_is_iff.1 hp1.symm
      refine lv_iload_n hx hb dX2_made_49 rfl (lv_at hl 2 rfl) ?_
      refine lv_bipush (v := 11) hx hb dX2_made_50 (by decide) ?_
      by_cases h11 : kd = 11
      · skip
        have h12 : ¬ kd = 12 := by rw [h11]; decide
        have hsp : ∀ i1 i2 i3 : Int32, pm_spec kd i1 i2 i3 = [(false, i1), (true, i2)] := by intro i1 i2 i3; rw [h11]; rfl
        refine lv_icmp_ne (tgt := 66) hx hb dX2_made_52 (by decide) (fun h9 => absurd h11 h9) (fun _ => ?_)
        refine lv_aload_n hx hb dX2_made_55 rfl (lv_at hl 1 rfl) ?_
        refine lv_iload_n hx hb dX2_made_56 rfl (lv_at hl 4 rfl) ?_
        refine mm_callV (As := [.int i2]) (rest := []) ⟨hx, hb, hml, hown, hts⟩ hE hST hA (c_X2_isCases l Z hm9 hA9) (cwV 1 hts (lw_V q2472 q2474 qs33 q54 q2475) rfl rfl rfl (by decide +kernel) ⟨(Nat.le_of_ble_eq_true rfl), (Nat.le_of_ble_eq_true rfl)⟩) hM hS mm_cX2 hm9 rfl hl.1 (Nat.le_of_ble_eq_true rfl) dX2_made_57 rfl ⟨(Nat.le_of_ble_eq_true rfl), (Nat.le_of_ble_eq_true rfl)⟩ (fun _ _ _ _ _ _ h9 => h9.elim) (fun v_4 M_5 H locs hp_6 hM hS => ?_)
        obtain ⟨rfl, eM_5⟩ := hp_6
        rw [eM_5] at hM
        rw [show (mm_b (pt_is T true i2) : Int32) = mm_b p2 from by rw [hp2]]
        cases p2
        · skip
          refine lv_if_eq (tgt := 93) hx hb dX2_made_60 (by decide) (fun _ => ?_) (fun h9 => absurd (by decide) h9)
          refine lv_iconst (v := 0) hx hb dX2_made_93 (by decide) ?_
          refine lv_istore hx hb dX2_made_94 hl (by decide) rfl (fun ls hl => ?_)
          replace hl : lv_has ls 8 [(6, .int 0), (5, .int (mm_b true)), (0, .ref a), (1, .int kd), (2, .int (nI k1)), (3, .int i2), (4, .int i3)] := hl
          refine lv_iload_n hx hb dX2_made_96 rfl (lv_at hl 3 rfl) ?_
          refine lv_bipush (v := 12) hx hb dX2_made_97 (by decide) ?_
          refine lv_icmp_ne (tgt := 107) hx hb dX2_made_99 (by decide) (fun _ => ?_) (fun h9 => absurd h9 h12)
          refine lv_iconst (v := -1) hx hb dX2_made_107 (by decide) ?_
          refine lv_istore hx hb dX2_made_108 hl (by decide) rfl (fun ls hl => ?_)
          replace hl : lv_has ls 8 [(7, .int (-1)), (6, .int 0), (5, .int (mm_b true)), (0, .ref a), (1, .int kd), (2, .int (nI k1)), (3, .int i2), (4, .int i3)] := hl
          refine lv_aload_n hx hb dX2_made_110 rfl (lv_at hl 3 rfl) ?_
          refine lv_iload hx hb dX2_made_111 (lv_at hl 2 rfl) ?_
          refine lv_iload hx hb dX2_made_113 (lv_at hl 1 rfl) ?_
          refine lv_iload hx hb dX2_made_115 (lv_at hl 1 rfl) ?_
          refine lv_if_eq (tgt := 158) hx hb dX2_made_117 (by decide) (fun _ => ?_) (fun h9 => absurd (by decide) h9)
          refine lv_iconst (v := 0) hx hb dX2_made_158 (by decide) ?_
          refine mm_callV (As := [.int (mm_b true), .int (mm_b false), .int (mm_b false)]) (rest := []) ⟨hx, hb, hml, hown, hts⟩ hE hST hA (c_X2_goes l Z (b1 := true) (b2 := false) (b3 := false) hm9) (cwV 3 hts (lw_V q2441 q2443 qs28 q54 q2444) rfl rfl rfl (by decide +kernel) ⟨(Nat.le_of_ble_eq_true rfl), (Nat.le_of_ble_eq_true rfl)⟩) hM hS mm_cX2 hm9 rfl hl.1 (Nat.le_of_ble_eq_true rfl) dX2_made_159 rfl ⟨(Nat.le_of_ble_eq_true rfl), (Nat.le_of_ble_eq_true rfl)⟩ (fun _ _ _ _ _ _ h9 => h9.elim) (fun v_7 M_8 H locs hp_9 hM hS => ?_)
          obtain ⟨rfl, e0M_8⟩ := hp_9
          have eM_8 : M_8 = mm_U M a (.inr (1, [.int (nI T.length), .ref kd', .ref wh', .ref f1, .ref f2, .ref f3, .ref wg, .int ea, .int sp, va_rf rt, .int 2, .int ak, .int wr, .ref pl, .int tk, .int (mm_b fa), .long st])) := e0M_8
          rw [eM_8] at hM
          have hc_10 : (mm_U M a (.inr (1, [.int (nI T.length), .ref kd', .ref wh', .ref f1, .ref f2, .ref f3, .ref wg, .int ea, .int sp, va_rf rt, .int 2, .int ak, .int wr, .ref pl, .int tk, .int (mm_b fa), .long st]))) a = some (.inr (1, [.int (nI T.length), .ref kd', .ref wh', .ref f1, .ref f2, .ref f3, .ref wg, .int ea, .int sp, va_rf rt, .int 2, .int ak, .int wr, .ref pl, .int tk, .int (mm_b fa), .long st])) := mm_U_eq
          obtain ⟨M_11, eM_11⟩ : ∃ z, z = mm_U M a (.inr (1, [.int (nI T.length), .ref kd', .ref wh', .ref f1, .ref f2, .ref f3, .ref wg, .int ea, .int sp, va_rf rt, .int 2, .int ak, .int wr, .ref pl, .int tk, .int (mm_b fa), .long st])) := ⟨_, rfl⟩
          rw [← eM_11] at hM hc_10
          refine lv_if_eq (tgt := 178) hx hb dX2_made_162 (by decide) (fun _ => ?_) (fun h9 => absurd (by decide) h9)
          have hA8 : md_A Z M_11 kd' wh' f1 f2 f3 wg pl T := by rw [eM_11]; exact hA9.U hm9
          have hfr : ∀ q : Nat, q ≠ a → M_11 q = M q := fun q h1 => by rw [eM_11]; exact mm_U_ne h1
          refine lv_iconst (v := 0) hx hb dX2_made_178 (by decide) ?_
          exact mm_reti hx hb hr hlk hM hS (Or.inr ⟨rfl, ⟨2, hc_10, (Or.inr (Or.inl ⟨hb5.symm, fun ps hps => (by rw [hsp] at hps; have h9 := pt_is_iff.2 (pt_p_2 hps); rw [← hp2] at h9; cases h9), rfl⟩))⟩, hA8, fun q h1 _ => hfr q h1⟩) dX2_made_179 (Nat.le_of_ble_eq_true rfl) (Nat.le_of_ble_eq_true rfl)
        · skip
          refine lv_if_eq (tgt := 93) hx hb dX2_made_60 (by decide) (fun h9 => absurd h9 (by decide)) (fun _ => ?_)
          obtain ⟨k2, hk2, rfl, hd2⟩ := pt_is_iff.1 hp2.symm
          refine lv_goto (tgt := 74) hx hb dX2_made_63 (by decide) ?_
          refine lv_iload_n hx hb dX2_made_74 rfl (lv_at hl 2 rfl) ?_
          refine lv_bipush (v := 12) hx hb dX2_made_75 (by decide) ?_
          refine lv_icmp_ne (tgt := 89) hx hb dX2_made_77 (by decide) (fun _ => ?_) (fun h9 => absurd h9 h12)
          refine lv_iconst (v := 1) hx hb dX2_made_89 (by decide) ?_
          refine lv_goto (tgt := 94) hx hb dX2_made_90 (by decide) ?_
          refine lv_istore hx hb dX2_made_94 hl (by decide) rfl (fun ls hl => ?_)
          replace hl : lv_has ls 8 [(6, .int 1), (5, .int (mm_b true)), (0, .ref a), (1, .int kd), (2, .int (nI k1)), (3, .int (nI k2)), (4, .int i3)] := hl
          refine lv_iload_n hx hb dX2_made_96 rfl (lv_at hl 3 rfl) ?_
          refine lv_bipush (v := 12) hx hb dX2_made_97 (by decide) ?_
          refine lv_icmp_ne (tgt := 107) hx hb dX2_made_99 (by decide) (fun _ => ?_) (fun h9 => absurd h9 h12)
          refine lv_iconst (v := -1) hx hb dX2_made_107 (by decide) ?_
          refine lv_istore hx hb dX2_made_108 hl (by decide) rfl (fun ls hl => ?_)
          replace hl : lv_has ls 8 [(7, .int (-1)), (6, .int 1), (5, .int (mm_b true)), (0, .ref a), (1, .int kd), (2, .int (nI k1)), (3, .int (nI k2)), (4, .int i3)] := hl
          refine lv_aload_n hx hb dX2_made_110 rfl (lv_at hl 3 rfl) ?_
          refine lv_iload hx hb dX2_made_111 (lv_at hl 2 rfl) ?_
          refine lv_iload hx hb dX2_made_113 (lv_at hl 1 rfl) ?_
          refine lv_iload hx hb dX2_made_115 (lv_at hl 1 rfl) ?_
          refine lv_if_eq (tgt := 158) hx hb dX2_made_117 (by decide) (fun h9 => absurd h9 (by decide)) (fun _ => ?_)
          refine lv_aload_n hx hb dX2_made_120 rfl (lv_at hl 3 rfl) ?_
          refine va_get (D := Z.1) (ci := 1) (v := .int (nI T.length)) (C := RX2) (T := TX2) (N := 17) hx hb hts in_X2 hown hE.1 (hM.at hm9) 0 rfl mm_cX2 0 (by decide) (hts _ q2378) (fun _ h9 => h9) rfl dX2_made_121 ?_
          refine lv_bipush (v := 120) hx hb dX2_made_124 (by decide) ?_
          refine lv_icmp_ge (tgt := 158) hx hb dX2_made_126 (by decide) (fun c_7 => ?_) (fun c_7 => ?_)
          · skip
            refine lv_iconst (v := 0) hx hb dX2_made_158 (by decide) ?_
            refine mm_callV (As := [.int (mm_b true), .int (mm_b true), .int (mm_b false)]) (rest := []) ⟨hx, hb, hml, hown, hts⟩ hE hST hA (c_X2_goes l Z (b1 := true) (b2 := true) (b3 := false) hm9) (cwV 3 hts (lw_V q2441 q2443 qs28 q54 q2444) rfl rfl rfl (by decide +kernel) ⟨(Nat.le_of_ble_eq_true rfl), (Nat.le_of_ble_eq_true rfl)⟩) hM hS mm_cX2 hm9 rfl hl.1 (Nat.le_of_ble_eq_true rfl) dX2_made_159 rfl ⟨(Nat.le_of_ble_eq_true rfl), (Nat.le_of_ble_eq_true rfl)⟩ (fun _ _ _ _ _ _ h9 => h9.elim) (fun v_8 M_9 H locs hp_10 hM hS => ?_)
            obtain ⟨rfl, e0M_9⟩ := hp_10
            have eM_9 : M_9 = mm_U M a (.inr (1, [.int (nI T.length), .ref kd', .ref wh', .ref f1, .ref f2, .ref f3, .ref wg, .int ea, .int sp, va_rf rt, .int 3, .int ak, .int wr, .ref pl, .int tk, .int (mm_b fa), .long st])) := e0M_9
            rw [eM_9] at hM
            have hc_11 : (mm_U M a (.inr (1, [.int (nI T.length), .ref kd', .ref wh', .ref f1, .ref f2, .ref f3, .ref wg, .int ea, .int sp, va_rf rt, .int 3, .int ak, .int wr, .ref pl, .int tk, .int (mm_b fa), .long st]))) a = some (.inr (1, [.int (nI T.length), .ref kd', .ref wh', .ref f1, .ref f2, .ref f3, .ref wg, .int ea, .int sp, va_rf rt, .int 3, .int ak, .int wr, .ref pl, .int tk, .int (mm_b fa), .long st])) := mm_U_eq
            obtain ⟨M_12, eM_12⟩ : ∃ z, z = mm_U M a (.inr (1, [.int (nI T.length), .ref kd', .ref wh', .ref f1, .ref f2, .ref f3, .ref wg, .int ea, .int sp, va_rf rt, .int 3, .int ak, .int wr, .ref pl, .int tk, .int (mm_b fa), .long st])) := ⟨_, rfl⟩
            rw [← eM_12] at hM hc_11
            refine lv_if_eq (tgt := 178) hx hb dX2_made_162 (by decide) (fun _ => ?_) (fun h9 => absurd (by decide) h9)
            have hA8 : md_A Z M_12 kd' wh' f1 f2 f3 wg pl T := by rw [eM_12]; exact hA9.U hm9
            have hfr : ∀ q : Nat, q ≠ a → M_12 q = M q := fun q h1 => by rw [eM_12]; exact mm_U_ne h1
            refine lv_iconst (v := 0) hx hb dX2_made_178 (by decide) ?_
            exact mm_reti hx hb hr hlk hM hS (Or.inr ⟨rfl, ⟨3, hc_11, (Or.inr (Or.inr ⟨hb5.symm, [k1, k2], (by rw [hsp]; exact ⟨⟨hk1, rfl, hd1⟩, ⟨hk2, rfl, hd2⟩, trivial⟩), fun h9 => absurd (nI_lt (b := 120) h9.1 (by omega)) (Int32.not_lt.2 c_7), rfl⟩))⟩, hA8, fun q h1 _ => hfr q h1⟩) dX2_made_179 (Nat.le_of_ble_eq_true rfl) (Nat.le_of_ble_eq_true rfl)
          · skip
            have hw100 := pt_w_b hg30 (ps := [k1, k2]) (Nat.le_of_ble_eq_true rfl)
            refine lv_iconst (v := 1) hx hb dX2_made_129 (by decide) ?_
            refine lv_aload_n hx hb dX2_made_130 rfl (lv_at hl 3 rfl) ?_
            refine lv_iload_n hx hb dX2_made_131 rfl (lv_at hl 5 rfl) ?_
            refine mm_callV (As := [.int (nI k1)]) (rest := [.int 1, .int 1, .int (mm_b true), .ref a]) ⟨hx, hb, hml, hown, hts⟩ hE hST hA (c_X2_weightOf l Z (T := T) (ps := [k1, k2]) (i := 0) hm9 hg5 hl9 hgw (fun j hj => by first | (cases hj; assumption) | (simp at hj))) (cwV 1 hts (lw_V q2449 q2451 qs30 q54 q2452) rfl rfl rfl (by decide +kernel) ⟨(Nat.le_of_ble_eq_true rfl), (Nat.le_of_ble_eq_true rfl)⟩) hM hS mm_cX2 hm9 rfl hl.1 (Nat.le_of_ble_eq_true rfl) dX2_made_132 rfl ⟨(Nat.le_of_ble_eq_true rfl), (Nat.le_of_ble_eq_true rfl)⟩ (fun _ _ _ _ _ _ h9 => h9.elim) (fun v_8 M_9 H locs hp_10 hM hS => ?_)
            obtain ⟨rfl, eM_9⟩ := hp_10
            rw [eM_9] at hM
            refine lv_iadd hx hb dX2_made_135 ?_
            rw [show (1 + (nI (pt_wi T [k1, k2] 0)) : Int32) = nI (1 + pt_wi T [k1, k2] 0) from by rw [show (1 : Int32) = nI 1 from by decide, nI_add]]
            refine lv_aload_n hx hb dX2_made_136 rfl (lv_at hl 3 rfl) ?_
            refine lv_iload_n hx hb dX2_made_137 rfl (lv_at hl 6 rfl) ?_
            refine mm_callV (As := [.int (nI k2)]) (rest := [.int (nI (1 + pt_wi T [k1, k2] 0)), .int 1, .int (mm_b true), .ref a]) ⟨hx, hb, hml, hown, hts⟩ hE hST hA (c_X2_weightOf l Z (T := T) (ps := [k1, k2]) (i := 1) hm9 hg5 hl9 hgw (fun j hj => by first | (cases hj; assumption) | (simp at hj))) (cwV 1 hts (lw_V q2449 q2451 qs30 q54 q2452) rfl rfl rfl (by decide +kernel) ⟨(Nat.le_of_ble_eq_true rfl), (Nat.le_of_ble_eq_true rfl)⟩) hM hS mm_cX2 hm9 rfl hl.1 (Nat.le_of_ble_eq_true rfl) dX2_made_138 rfl ⟨(Nat.le_of_ble_eq_true rfl), (Nat.le_of_ble_eq_true rfl)⟩ (fun _ _ _ _ _ _ h9 => h9.elim) (fun v_11 M_12 H locs hp_13 hM hS => ?_)
            obtain ⟨rfl, eM_12⟩ := hp_13
            rw [eM_12] at hM
            refine lv_iadd hx hb dX2_made_141 ?_
            rw [show ((nI (1 + pt_wi T [k1, k2] 0)) + (nI (pt_wi T [k1, k2] 1)) : Int32) = nI (1 + pt_wi T [k1, k2] 0 + pt_wi T [k1, k2] 1) from nI_add _ _]
            refine lv_aload_n hx hb dX2_made_142 rfl (lv_at hl 3 rfl) ?_
            refine lv_iload hx hb dX2_made_143 (lv_at hl 0 rfl) ?_
            refine mm_callV (As := [.int (-1)]) (rest := [.int (nI (1 + pt_wi T [k1, k2] 0 + pt_wi T [k1, k2] 1)), .int 1, .int (mm_b true), .ref a]) ⟨hx, hb, hml, hown, hts⟩ hE hST hA (c_X2_weightOf l Z (T := T) (ps := [k1, k2]) (i := 2) hm9 hg5 hl9 hgw (fun j hj => by first | (cases hj; assumption) | (simp at hj))) (cwV 1 hts (lw_V q2449 q2451 qs30 q54 q2452) rfl rfl rfl (by decide +kernel) ⟨(Nat.le_of_ble_eq_true rfl), (Nat.le_of_ble_eq_true rfl)⟩) hM hS mm_cX2 hm9 rfl hl.1 (Nat.le_of_ble_eq_true rfl) dX2_made_145 rfl ⟨(Nat.le_of_ble_eq_true rfl), (Nat.le_of_ble_eq_true rfl)⟩ (fun _ _ _ _ _ _ h9 => h9.elim) (fun v_14 M_15 H locs hp_16 hM hS => ?_)
            obtain ⟨rfl, eM_15⟩ := hp_16
            rw [eM_15] at hM
            refine lv_iadd hx hb dX2_made_148 ?_
            rw [show ((nI (1 + pt_wi T [k1, k2] 0 + pt_wi T [k1, k2] 1)) + (nI (pt_wi T [k1, k2] 2)) : Int32) = nI (1 + pt_wi T [k1, k2] 0 + pt_wi T [k1, k2] 1 + pt_wi T [k1, k2] 2) from nI_add _ _]
            rw [show (nI (1 + pt_wi T [k1, k2] 0 + pt_wi T [k1, k2] 1 + pt_wi T [k1, k2] 2) : Int32) = nI (pt_w T [k1, k2]) from congrArg nI (pt_w_sum (ps := [k1, k2]) (Nat.le_of_ble_eq_true rfl))]
            refine lv_bipush (v := 30) hx hb dX2_made_149 (by decide) ?_
            refine lv_icmp_gt (tgt := 158) hx hb dX2_made_151 (by decide) (fun c_17 => ?_) (fun c_17 => ?_)
            · skip
              refine lv_iconst (v := 0) hx hb dX2_made_158 (by decide) ?_
              refine mm_callV (As := [.int (mm_b true), .int (mm_b true), .int (mm_b false)]) (rest := []) ⟨hx, hb, hml, hown, hts⟩ hE hST hA (c_X2_goes l Z (b1 := true) (b2 := true) (b3 := false) hm9) (cwV 3 hts (lw_V q2441 q2443 qs28 q54 q2444) rfl rfl rfl (by decide +kernel) ⟨(Nat.le_of_ble_eq_true rfl), (Nat.le_of_ble_eq_true rfl)⟩) hM hS mm_cX2 hm9 rfl hl.1 (Nat.le_of_ble_eq_true rfl) dX2_made_159 rfl ⟨(Nat.le_of_ble_eq_true rfl), (Nat.le_of_ble_eq_true rfl)⟩ (fun _ _ _ _ _ _ h9 => h9.elim) (fun v_18 M_19 H locs hp_20 hM hS => ?_)
              obtain ⟨rfl, e0M_19⟩ := hp_20
              have eM_19 : M_19 = mm_U M a (.inr (1, [.int (nI T.length), .ref kd', .ref wh', .ref f1, .ref f2, .ref f3, .ref wg, .int ea, .int sp, va_rf rt, .int 3, .int ak, .int wr, .ref pl, .int tk, .int (mm_b fa), .long st])) := e0M_19
              rw [eM_19] at hM
              have hc_21 : (mm_U M a (.inr (1, [.int (nI T.length), .ref kd', .ref wh', .ref f1, .ref f2, .ref f3, .ref wg, .int ea, .int sp, va_rf rt, .int 3, .int ak, .int wr, .ref pl, .int tk, .int (mm_b fa), .long st]))) a = some (.inr (1, [.int (nI T.length), .ref kd', .ref wh', .ref f1, .ref f2, .ref f3, .ref wg, .int ea, .int sp, va_rf rt, .int 3, .int ak, .int wr, .ref pl, .int tk, .int (mm_b fa), .long st])) := mm_U_eq
              obtain ⟨M_22, eM_22⟩ : ∃ z, z = mm_U M a (.inr (1, [.int (nI T.length), .ref kd', .ref wh', .ref f1, .ref f2, .ref f3, .ref wg, .int ea, .int sp, va_rf rt, .int 3, .int ak, .int wr, .ref pl, .int tk, .int (mm_b fa), .long st])) := ⟨_, rfl⟩
              rw [← eM_22] at hM hc_21
              refine lv_if_eq (tgt := 178) hx hb dX2_made_162 (by decide) (fun _ => ?_) (fun h9 => absurd (by decide) h9)
              have hA8 : md_A Z M_22 kd' wh' f1 f2 f3 wg pl T := by rw [eM_22]; exact hA9.U hm9
              have hfr : ∀ q : Nat, q ≠ a → M_22 q = M q := fun q h1 => by rw [eM_22]; exact mm_U_ne h1
              refine lv_iconst (v := 0) hx hb dX2_made_178 (by decide) ?_
              exact mm_reti hx hb hr hlk hM hS (Or.inr ⟨rfl, ⟨3, hc_21, (Or.inr (Or.inr ⟨hb5.symm, [k1, k2], (by rw [hsp]; exact ⟨⟨hk1, rfl, hd1⟩, ⟨hk2, rfl, hd2⟩, trivial⟩), fun h9 => absurd (nI_le (b := 30) h9.2 (by omega)) (Int32.not_le.2 c_17), rfl⟩))⟩, hA8, fun q h1 _ => hfr q h1⟩) dX2_made_179 (Nat.le_of_ble_eq_true rfl) (Nat.le_of_ble_eq_true rfl)
            · skip
              have hok : T.length < 120 ∧ pt_w T [k1, k2] ≤ 30 := ⟨(nI_ltI (b := 120) (by omega) (by omega)).1 (Int32.not_le.1 c_7), (nI_leI (b := 30) (by omega) (by omega)).1 (Int32.not_lt.1 c_17)⟩
              refine lv_iconst (v := 1) hx hb dX2_made_154 (by decide) ?_
              refine lv_goto (tgt := 159) hx hb dX2_made_155 (by decide) ?_
              refine mm_callV (As := [.int (mm_b true), .int (mm_b true), .int (mm_b true)]) (rest := []) ⟨hx, hb, hml, hown, hts⟩ hE hST hA (c_X2_goes l Z (b1 := true) (b2 := true) (b3 := true) hm9) (cwV 3 hts (lw_V q2441 q2443 qs28 q54 q2444) rfl rfl rfl (by decide +kernel) ⟨(Nat.le_of_ble_eq_true rfl), (Nat.le_of_ble_eq_true rfl)⟩) hM hS mm_cX2 hm9 rfl hl.1 (Nat.le_of_ble_eq_true rfl) dX2_made_159 rfl ⟨(Nat.le_of_ble_eq_true rfl), (Nat.le_of_ble_eq_true rfl)⟩ (fun _ _ _ _ _ _ h9 => h9.elim) (fun v_18 M_19 H locs hp_20 hM hS => ?_)
              obtain ⟨rfl, e0M_19⟩ := hp_20
              have eM_19 : M_19 = mm_U M a (.inr (1, [.int (nI T.length), .ref kd', .ref wh', .ref f1, .ref f2, .ref f3, .ref wg, .int ea, .int sp, va_rf rt, .int 0, .int ak, .int wr, .ref pl, .int tk, .int (mm_b fa), .long st])) := e0M_19
              rw [eM_19] at hM
              have hc_21 : (mm_U M a (.inr (1, [.int (nI T.length), .ref kd', .ref wh', .ref f1, .ref f2, .ref f3, .ref wg, .int ea, .int sp, va_rf rt, .int 0, .int ak, .int wr, .ref pl, .int tk, .int (mm_b fa), .long st]))) a = some (.inr (1, [.int (nI T.length), .ref kd', .ref wh', .ref f1, .ref f2, .ref f3, .ref wg, .int ea, .int sp, va_rf rt, .int 0, .int ak, .int wr, .ref pl, .int tk, .int (mm_b fa), .long st])) := mm_U_eq
              obtain ⟨M_22, eM_22⟩ : ∃ z, z = mm_U M a (.inr (1, [.int (nI T.length), .ref kd', .ref wh', .ref f1, .ref f2, .ref f3, .ref wg, .int ea, .int sp, va_rf rt, .int 0, .int ak, .int wr, .ref pl, .int tk, .int (mm_b fa), .long st])) := ⟨_, rfl⟩
              rw [← eM_22] at hM hc_21
              refine lv_if_eq (tgt := 178) hx hb dX2_made_162 (by decide) (fun h9 => absurd h9 (by decide)) (fun _ => ?_)
              have hA8 : md_A Z M_22 kd' wh' f1 f2 f3 wg pl T := by rw [eM_22]; exact hA9.U hm9
              have hfr : ∀ q : Nat, q ≠ a → M_22 q = M q := fun q h1 => by rw [eM_22]; exact mm_U_ne h1
              refine lv_aload_n hx hb dX2_made_165 rfl (lv_at hl 3 rfl) ?_
              refine lv_iload_n hx hb dX2_made_166 rfl (lv_at hl 4 rfl) ?_
              refine lv_iconst (v := 0) hx hb dX2_made_167 (by decide) ?_
              refine lv_iload_n hx hb dX2_made_168 rfl (lv_at hl 5 rfl) ?_
              refine lv_iload_n hx hb dX2_made_169 rfl (lv_at hl 6 rfl) ?_
              refine lv_iload hx hb dX2_made_170 (lv_at hl 0 rfl) ?_
              have hmk : ∀ j ∈ ([k1, k2] : List Nat), j < T.length := by intro j hj; simp only [List.mem_cons, List.not_mem_nil, or_false] at hj; rcases hj with rfl | rfl <;> assumption
              refine mm_callV (As := [.int kd, .int 0, .int (nI k1), .int (nI k2), .int (-1)]) (rest := []) ⟨hx, hb, hml, hown, hts⟩ hE hST hA (c_X2_makes l Z (r := (kd, 0, 0, [k1, k2], pt_w T [k1, k2])) hc_21 hA8 hok.1 (by decide : 2 ≤ 3) hmk rfl (hits _ _) rfl hok.2) (cwV 5 hts (lw_V q2445 q2447 qs29 q54 q2448) rfl rfl rfl (by decide +kernel) ⟨(Nat.le_of_ble_eq_true rfl), (Nat.le_of_ble_eq_true rfl)⟩) hM hS mm_cX2 hc_21 rfl hl.1 (Nat.le_of_ble_eq_true rfl) dX2_made_172 rfl ⟨(Nat.le_of_ble_eq_true rfl), (Nat.le_of_ble_eq_true rfl)⟩ (fun _ _ _ _ _ _ h9 => h9.elim) (fun v_23 M_24 H locs hp_25 hM hS => ?_)
              obtain ⟨rfl, hm7, hA7, hfr7⟩ := hp_25
              refine lv_goto (tgt := 179) hx hb dX2_made_175 (by decide) ?_
              exact mm_reti hx hb hr hlk hM hS (Or.inl ⟨hb5.symm, [k1, k2], (by rw [hsp]; exact ⟨⟨hk1, rfl, hd1⟩, ⟨hk2, rfl, hd2⟩, trivial⟩), hok, rfl, hm7, hA7, fun q h1 h2 => (hfr7 q h1 h2).trans (hfr q h1)⟩) dX2_made_179 (Nat.le_of_ble_eq_true rfl) (Nat.le_of_ble_eq_true rfl)
      · skip
        refine lv_icmp_ne (tgt := 66) hx hb dX2_made_52 (by decide) (fun _ => ?_) (fun h9 => absurd h9 h11)
        refine lv_aload_n hx hb dX2_made_66 rfl (lv_at hl 1 rfl) ?_
        refine lv_iload_n hx hb dX2_made_67 rfl (lv_at hl 4 rfl) ?_
        refine mm_callV (As := [.int i2]) (rest := []) ⟨hx, hb, hml, hown, hts⟩ hE hST hA (c_X2_isOne l Z hm9 hA9) (cwV 1 hts (lw_V q2460 q2462 qs31 q54 q2463) rfl rfl rfl (by decide +kernel) ⟨(Nat.le_of_ble_eq_true rfl), (Nat.le_of_ble_eq_true rfl)⟩) hM hS mm_cX2 hm9 rfl hl.1 (Nat.le_of_ble_eq_true rfl) dX2_made_68 rfl ⟨(Nat.le_of_ble_eq_true rfl), (Nat.le_of_ble_eq_true rfl)⟩ (fun _ _ _ _ _ _ h9 => h9.elim) (fun v_4 M_5 H locs hp_6 hM hS => ?_)
        obtain ⟨rfl, eM_5⟩ := hp_6
        rw [eM_5] at hM
        rw [show (mm_b (pt_is T false i2) : Int32) = mm_b p3 from by rw [hp3]]
        cases p3
        · skip
          refine lv_if_eq (tgt := 93) hx hb dX2_made_71 (by decide) (fun _ => ?_) (fun h9 => absurd (by decide) h9)
          by_cases h12 : kd = 12
          · skip
            refine lv_iconst (v := 0) hx hb dX2_made_93 (by decide) ?_
            refine lv_istore hx hb dX2_made_94 hl (by decide) rfl (fun ls hl => ?_)
            replace hl : lv_has ls 8 [(6, .int 0), (5, .int (mm_b true)), (0, .ref a), (1, .int kd), (2, .int (nI k1)), (3, .int i2), (4, .int i3)] := hl
            refine lv_iload_n hx hb dX2_made_96 rfl (lv_at hl 3 rfl) ?_
            refine lv_bipush (v := 12) hx hb dX2_made_97 (by decide) ?_
            refine lv_icmp_ne (tgt := 107) hx hb dX2_made_99 (by decide) (fun h9 => absurd h12 h9) (fun _ => ?_)
            refine lv_iload hx hb dX2_made_102 (lv_at hl 6 rfl) ?_
            refine lv_goto (tgt := 108) hx hb dX2_made_104 (by decide) ?_
            refine lv_istore hx hb dX2_made_108 hl (by decide) rfl (fun ls hl => ?_)
            replace hl : lv_has ls 8 [(7, .int i3), (6, .int 0), (5, .int (mm_b true)), (0, .ref a), (1, .int kd), (2, .int (nI k1)), (3, .int i2), (4, .int i3)] := hl
            refine lv_aload_n hx hb dX2_made_110 rfl (lv_at hl 3 rfl) ?_
            refine lv_iload hx hb dX2_made_111 (lv_at hl 2 rfl) ?_
            refine lv_iload hx hb dX2_made_113 (lv_at hl 1 rfl) ?_
            refine lv_iload hx hb dX2_made_115 (lv_at hl 1 rfl) ?_
            refine lv_if_eq (tgt := 158) hx hb dX2_made_117 (by decide) (fun _ => ?_) (fun h9 => absurd (by decide) h9)
            refine lv_iconst (v := 0) hx hb dX2_made_158 (by decide) ?_
            refine mm_callV (As := [.int (mm_b true), .int (mm_b false), .int (mm_b false)]) (rest := []) ⟨hx, hb, hml, hown, hts⟩ hE hST hA (c_X2_goes l Z (b1 := true) (b2 := false) (b3 := false) hm9) (cwV 3 hts (lw_V q2441 q2443 qs28 q54 q2444) rfl rfl rfl (by decide +kernel) ⟨(Nat.le_of_ble_eq_true rfl), (Nat.le_of_ble_eq_true rfl)⟩) hM hS mm_cX2 hm9 rfl hl.1 (Nat.le_of_ble_eq_true rfl) dX2_made_159 rfl ⟨(Nat.le_of_ble_eq_true rfl), (Nat.le_of_ble_eq_true rfl)⟩ (fun _ _ _ _ _ _ h9 => h9.elim) (fun v_7 M_8 H locs hp_9 hM hS => ?_)
            obtain ⟨rfl, e0M_8⟩ := hp_9
            have eM_8 : M_8 = mm_U M a (.inr (1, [.int (nI T.length), .ref kd', .ref wh', .ref f1, .ref f2, .ref f3, .ref wg, .int ea, .int sp, va_rf rt, .int 2, .int ak, .int wr, .ref pl, .int tk, .int (mm_b fa), .long st])) := e0M_8
            rw [eM_8] at hM
            have hc_10 : (mm_U M a (.inr (1, [.int (nI T.length), .ref kd', .ref wh', .ref f1, .ref f2, .ref f3, .ref wg, .int ea, .int sp, va_rf rt, .int 2, .int ak, .int wr, .ref pl, .int tk, .int (mm_b fa), .long st]))) a = some (.inr (1, [.int (nI T.length), .ref kd', .ref wh', .ref f1, .ref f2, .ref f3, .ref wg, .int ea, .int sp, va_rf rt, .int 2, .int ak, .int wr, .ref pl, .int tk, .int (mm_b fa), .long st])) := mm_U_eq
            obtain ⟨M_11, eM_11⟩ : ∃ z, z = mm_U M a (.inr (1, [.int (nI T.length), .ref kd', .ref wh', .ref f1, .ref f2, .ref f3, .ref wg, .int ea, .int sp, va_rf rt, .int 2, .int ak, .int wr, .ref pl, .int tk, .int (mm_b fa), .long st])) := ⟨_, rfl⟩
            rw [← eM_11] at hM hc_10
            refine lv_if_eq (tgt := 178) hx hb dX2_made_162 (by decide) (fun _ => ?_) (fun h9 => absurd (by decide) h9)
            have hA8 : md_A Z M_11 kd' wh' f1 f2 f3 wg pl T := by rw [eM_11]; exact hA9.U hm9
            have hfr : ∀ q : Nat, q ≠ a → M_11 q = M q := fun q h1 => by rw [eM_11]; exact mm_U_ne h1
            refine lv_iconst (v := 0) hx hb dX2_made_178 (by decide) ?_
            exact mm_reti hx hb hr hlk hM hS (Or.inr ⟨rfl, ⟨2, hc_10, (Or.inr (Or.inl ⟨hb5.symm, fun ps hps => (by obtain ⟨t9, h6⟩ := pm_hd kd (nI k1) i2 i3; rw [h6, show (kd == 11) = false by simp [h11]] at hps; have h9 := pt_is_iff.2 (pt_p_2 hps); rw [← hp3] at h9; cases h9), rfl⟩))⟩, hA8, fun q h1 _ => hfr q h1⟩) dX2_made_179 (Nat.le_of_ble_eq_true rfl) (Nat.le_of_ble_eq_true rfl)
          · skip
            refine lv_iconst (v := 0) hx hb dX2_made_93 (by decide) ?_
            refine lv_istore hx hb dX2_made_94 hl (by decide) rfl (fun ls hl => ?_)
            replace hl : lv_has ls 8 [(6, .int 0), (5, .int (mm_b true)), (0, .ref a), (1, .int kd), (2, .int (nI k1)), (3, .int i2), (4, .int i3)] := hl
            refine lv_iload_n hx hb dX2_made_96 rfl (lv_at hl 3 rfl) ?_
            refine lv_bipush (v := 12) hx hb dX2_made_97 (by decide) ?_
            refine lv_icmp_ne (tgt := 107) hx hb dX2_made_99 (by decide) (fun _ => ?_) (fun h9 => absurd h9 h12)
            refine lv_iconst (v := -1) hx hb dX2_made_107 (by decide) ?_
            refine lv_istore hx hb dX2_made_108 hl (by decide) rfl (fun ls hl => ?_)
            replace hl : lv_has ls 8 [(7, .int (-1)), (6, .int 0), (5, .int (mm_b true)), (0, .ref a), (1, .int kd), (2, .int (nI k1)), (3, .int i2), (4, .int i3)] := hl
            refine lv_aload_n hx hb dX2_made_110 rfl (lv_at hl 3 rfl) ?_
            refine lv_iload hx hb dX2_made_111 (lv_at hl 2 rfl) ?_
            refine lv_iload hx hb dX2_made_113 (lv_at hl 1 rfl) ?_
            refine lv_iload hx hb dX2_made_115 (lv_at hl 1 rfl) ?_
            refine lv_if_eq (tgt := 158) hx hb dX2_made_117 (by decide) (fun _ => ?_) (fun h9 => absurd (by decide) h9)
            refine lv_iconst (v := 0) hx hb dX2_made_158 (by decide) ?_
            refine mm_callV (As := [.int (mm_b true), .int (mm_b false), .int (mm_b false)]) (rest := []) ⟨hx, hb, hml, hown, hts⟩ hE hST hA (c_X2_goes l Z (b1 := true) (b2 := false) (b3 := false) hm9) (cwV 3 hts (lw_V q2441 q2443 qs28 q54 q2444) rfl rfl rfl (by decide +kernel) ⟨(Nat.le_of_ble_eq_true rfl), (Nat.le_of_ble_eq_true rfl)⟩) hM hS mm_cX2 hm9 rfl hl.1 (Nat.le_of_ble_eq_true rfl) dX2_made_159 rfl ⟨(Nat.le_of_ble_eq_true rfl), (Nat.le_of_ble_eq_true rfl)⟩ (fun _ _ _ _ _ _ h9 => h9.elim) (fun v_7 M_8 H locs hp_9 hM hS => ?_)
            obtain ⟨rfl, e0M_8⟩ := hp_9
            have eM_8 : M_8 = mm_U M a (.inr (1, [.int (nI T.length), .ref kd', .ref wh', .ref f1, .ref f2, .ref f3, .ref wg, .int ea, .int sp, va_rf rt, .int 2, .int ak, .int wr, .ref pl, .int tk, .int (mm_b fa), .long st])) := e0M_8
            rw [eM_8] at hM
            have hc_10 : (mm_U M a (.inr (1, [.int (nI T.length), .ref kd', .ref wh', .ref f1, .ref f2, .ref f3, .ref wg, .int ea, .int sp, va_rf rt, .int 2, .int ak, .int wr, .ref pl, .int tk, .int (mm_b fa), .long st]))) a = some (.inr (1, [.int (nI T.length), .ref kd', .ref wh', .ref f1, .ref f2, .ref f3, .ref wg, .int ea, .int sp, va_rf rt, .int 2, .int ak, .int wr, .ref pl, .int tk, .int (mm_b fa), .long st])) := mm_U_eq
            obtain ⟨M_11, eM_11⟩ : ∃ z, z = mm_U M a (.inr (1, [.int (nI T.length), .ref kd', .ref wh', .ref f1, .ref f2, .ref f3, .ref wg, .int ea, .int sp, va_rf rt, .int 2, .int ak, .int wr, .ref pl, .int tk, .int (mm_b fa), .long st])) := ⟨_, rfl⟩
            rw [← eM_11] at hM hc_10
            refine lv_if_eq (tgt := 178) hx hb dX2_made_162 (by decide) (fun _ => ?_) (fun h9 => absurd (by decide) h9)
            have hA8 : md_A Z M_11 kd' wh' f1 f2 f3 wg pl T := by rw [eM_11]; exact hA9.U hm9
            have hfr : ∀ q : Nat, q ≠ a → M_11 q = M q := fun q h1 => by rw [eM_11]; exact mm_U_ne h1
            refine lv_iconst (v := 0) hx hb dX2_made_178 (by decide) ?_
            exact mm_reti hx hb hr hlk hM hS (Or.inr ⟨rfl, ⟨2, hc_10, (Or.inr (Or.inl ⟨hb5.symm, fun ps hps => (by obtain ⟨t9, h6⟩ := pm_hd kd (nI k1) i2 i3; rw [h6, show (kd == 11) = false by simp [h11]] at hps; have h9 := pt_is_iff.2 (pt_p_2 hps); rw [← hp3] at h9; cases h9), rfl⟩))⟩, hA8, fun q h1 _ => hfr q h1⟩) dX2_made_179 (Nat.le_of_ble_eq_true rfl) (Nat.le_of_ble_eq_true rfl)
        · skip
          refine lv_if_eq (tgt := 93) hx hb dX2_made_71 (by decide) (fun h9 => absurd h9 (by decide)) (fun _ => ?_)
          obtain ⟨k2, hk2, rfl, hd2⟩ := pt_is_iff.1 hp3.symm
          refine lv_iload_n hx hb dX2_made_74 rfl (lv_at hl 2 rfl) ?_
          refine lv_bipush (v := 12) hx hb dX2_made_75 (by decide) ?_
          by_cases h12 : kd = 12
          · skip
            have hsp : ∀ i1 i2 i3 : Int32, pm_spec kd i1 i2 i3 = [(false, i1), (false, i2), (false, i3)] := by intro i1 i2 i3; rw [h12]; rfl
            refine lv_icmp_ne (tgt := 89) hx hb dX2_made_77 (by decide) (fun h9 => absurd h12 h9) (fun _ => ?_)
            refine lv_aload_n hx hb dX2_made_80 rfl (lv_at hl 1 rfl) ?_
            refine lv_iload hx hb dX2_made_81 (lv_at hl 5 rfl) ?_
            refine mm_callV (As := [.int i3]) (rest := []) ⟨hx, hb, hml, hown, hts⟩ hE hST hA (c_X2_isOne l Z hm9 hA9) (cwV 1 hts (lw_V q2460 q2462 qs31 q54 q2463) rfl rfl rfl (by decide +kernel) ⟨(Nat.le_of_ble_eq_true rfl), (Nat.le_of_ble_eq_true rfl)⟩) hM hS mm_cX2 hm9 rfl hl.1 (Nat.le_of_ble_eq_true rfl) dX2_made_83 rfl ⟨(Nat.le_of_ble_eq_true rfl), (Nat.le_of_ble_eq_true rfl)⟩ (fun _ _ _ _ _ _ h9 => h9.elim) (fun v_7 M_8 H locs hp_9 hM hS => ?_)
            obtain ⟨rfl, eM_8⟩ := hp_9
            rw [eM_8] at hM
            rw [show (mm_b (pt_is T false i3) : Int32) = mm_b p4 from by rw [hp4]]
            cases p4
            · skip
              refine lv_if_eq (tgt := 93) hx hb dX2_made_86 (by decide) (fun _ => ?_) (fun h9 => absurd (by decide) h9)
              refine lv_iconst (v := 0) hx hb dX2_made_93 (by decide) ?_
              refine lv_istore hx hb dX2_made_94 hl (by decide) rfl (fun ls hl => ?_)
              replace hl : lv_has ls 8 [(6, .int 0), (5, .int (mm_b true)), (0, .ref a), (1, .int kd), (2, .int (nI k1)), (3, .int (nI k2)), (4, .int i3)] := hl
              refine lv_iload_n hx hb dX2_made_96 rfl (lv_at hl 3 rfl) ?_
              refine lv_bipush (v := 12) hx hb dX2_made_97 (by decide) ?_
              refine lv_icmp_ne (tgt := 107) hx hb dX2_made_99 (by decide) (fun h9 => absurd h12 h9) (fun _ => ?_)
              refine lv_iload hx hb dX2_made_102 (lv_at hl 6 rfl) ?_
              refine lv_goto (tgt := 108) hx hb dX2_made_104 (by decide) ?_
              refine lv_istore hx hb dX2_made_108 hl (by decide) rfl (fun ls hl => ?_)
              replace hl : lv_has ls 8 [(7, .int i3), (6, .int 0), (5, .int (mm_b true)), (0, .ref a), (1, .int kd), (2, .int (nI k1)), (3, .int (nI k2)), (4, .int i3)] := hl
              refine lv_aload_n hx hb dX2_made_110 rfl (lv_at hl 3 rfl) ?_
              refine lv_iload hx hb dX2_made_111 (lv_at hl 2 rfl) ?_
              refine lv_iload hx hb dX2_made_113 (lv_at hl 1 rfl) ?_
              refine lv_iload hx hb dX2_made_115 (lv_at hl 1 rfl) ?_
              refine lv_if_eq (tgt := 158) hx hb dX2_made_117 (by decide) (fun _ => ?_) (fun h9 => absurd (by decide) h9)
              refine lv_iconst (v := 0) hx hb dX2_made_158 (by decide) ?_
              refine mm_callV (As := [.int (mm_b true), .int (mm_b false), .int (mm_b false)]) (rest := []) ⟨hx, hb, hml, hown, hts⟩ hE hST hA (c_X2_goes l Z (b1 := true) (b2 := false) (b3 := false) hm9) (cwV 3 hts (lw_V q2441 q2443 qs28 q54 q2444) rfl rfl rfl (by decide +kernel) ⟨(Nat.le_of_ble_eq_true rfl), (Nat.le_of_ble_eq_true rfl)⟩) hM hS mm_cX2 hm9 rfl hl.1 (Nat.le_of_ble_eq_true rfl) dX2_made_159 rfl ⟨(Nat.le_of_ble_eq_true rfl), (Nat.le_of_ble_eq_true rfl)⟩ (fun _ _ _ _ _ _ h9 => h9.elim) (fun v_10 M_11 H locs hp_12 hM hS => ?_)
              obtain ⟨rfl, e0M_11⟩ := hp_12
              have eM_11 : M_11 = mm_U M a (.inr (1, [.int (nI T.length), .ref kd', .ref wh', .ref f1, .ref f2, .ref f3, .ref wg, .int ea, .int sp, va_rf rt, .int 2, .int ak, .int wr, .ref pl, .int tk, .int (mm_b fa), .long st])) := e0M_11
              rw [eM_11] at hM
              have hc_13 : (mm_U M a (.inr (1, [.int (nI T.length), .ref kd', .ref wh', .ref f1, .ref f2, .ref f3, .ref wg, .int ea, .int sp, va_rf rt, .int 2, .int ak, .int wr, .ref pl, .int tk, .int (mm_b fa), .long st]))) a = some (.inr (1, [.int (nI T.length), .ref kd', .ref wh', .ref f1, .ref f2, .ref f3, .ref wg, .int ea, .int sp, va_rf rt, .int 2, .int ak, .int wr, .ref pl, .int tk, .int (mm_b fa), .long st])) := mm_U_eq
              obtain ⟨M_14, eM_14⟩ : ∃ z, z = mm_U M a (.inr (1, [.int (nI T.length), .ref kd', .ref wh', .ref f1, .ref f2, .ref f3, .ref wg, .int ea, .int sp, va_rf rt, .int 2, .int ak, .int wr, .ref pl, .int tk, .int (mm_b fa), .long st])) := ⟨_, rfl⟩
              rw [← eM_14] at hM hc_13
              refine lv_if_eq (tgt := 178) hx hb dX2_made_162 (by decide) (fun _ => ?_) (fun h9 => absurd (by decide) h9)
              have hA8 : md_A Z M_14 kd' wh' f1 f2 f3 wg pl T := by rw [eM_14]; exact hA9.U hm9
              have hfr : ∀ q : Nat, q ≠ a → M_14 q = M q := fun q h1 => by rw [eM_14]; exact mm_U_ne h1
              refine lv_iconst (v := 0) hx hb dX2_made_178 (by decide) ?_
              exact mm_reti hx hb hr hlk hM hS (Or.inr ⟨rfl, ⟨2, hc_13, (Or.inr (Or.inl ⟨hb5.symm, fun ps hps => (by rw [hsp] at hps; have h9 := pt_is_iff.2 (pt_p_3 hps); rw [← hp4] at h9; cases h9), rfl⟩))⟩, hA8, fun q h1 _ => hfr q h1⟩) dX2_made_179 (Nat.le_of_ble_eq_true rfl) (Nat.le_of_ble_eq_true rfl)
            · skip
              refine lv_if_eq (tgt := 93) hx hb dX2_made_86 (by decide) (fun h9 => absurd h9 (by decide)) (fun _ => ?_)
              obtain ⟨k3, hk3, rfl, hd3⟩ := pt_is_iff.1 hp4.symm
              refine lv_iconst (v := 1) hx hb dX2_made_89 (by decide) ?_
              refine lv_goto (tgt := 94) hx hb dX2_made_90 (by decide) ?_
              refine lv_istore hx hb dX2_made_94 hl (by decide) rfl (fun ls hl => ?_)
              replace hl : lv_has ls 8 [(6, .int 1), (5, .int (mm_b true)), (0, .ref a), (1, .int kd), (2, .int (nI k1)), (3, .int (nI k2)), (4, .int (nI k3))] := hl
              refine lv_iload_n hx hb dX2_made_96 rfl (lv_at hl 3 rfl) ?_
              refine lv_bipush (v := 12) hx hb dX2_made_97 (by decide) ?_
              refine lv_icmp_ne (tgt := 107) hx hb dX2_made_99 (by decide) (fun h9 => absurd h12 h9) (fun _ => ?_)
              refine lv_iload hx hb dX2_made_102 (lv_at hl 6 rfl) ?_
              refine lv_goto (tgt := 108) hx hb dX2_made_104 (by decide) ?_
              refine lv_istore hx hb dX2_made_108 hl (by decide) rfl (fun ls hl => ?_)
              replace hl : lv_has ls 8 [(7, .int (nI k3)), (6, .int 1), (5, .int (mm_b true)), (0, .ref a), (1, .int kd), (2, .int (nI k1)), (3, .int (nI k2)), (4, .int (nI k3))] := hl
              refine lv_aload_n hx hb dX2_made_110 rfl (lv_at hl 3 rfl) ?_
              refine lv_iload hx hb dX2_made_111 (lv_at hl 2 rfl) ?_
              refine lv_iload hx hb dX2_made_113 (lv_at hl 1 rfl) ?_
              refine lv_iload hx hb dX2_made_115 (lv_at hl 1 rfl) ?_
              refine lv_if_eq (tgt := 158) hx hb dX2_made_117 (by decide) (fun h9 => absurd h9 (by decide)) (fun _ => ?_)
              refine lv_aload_n hx hb dX2_made_120 rfl (lv_at hl 3 rfl) ?_
              refine va_get (D := Z.1) (ci := 1) (v := .int (nI T.length)) (C := RX2) (T := TX2) (N := 17) hx hb hts in_X2 hown hE.1 (hM.at hm9) 0 rfl mm_cX2 0 (by decide) (hts _ q2378) (fun _ h9 => h9) rfl dX2_made_121 ?_
              refine lv_bipush (v := 120) hx hb dX2_made_124 (by decide) ?_
              refine lv_icmp_ge (tgt := 158) hx hb dX2_made_126 (by decide) (fun c_10 => ?_) (fun c_10 => ?_)
              · skip
                refine lv_iconst (v := 0) hx hb dX2_made_158 (by decide) ?_
                refine mm_callV (As := [.int (mm_b true), .int (mm_b true), .int (mm_b false)]) (rest := []) ⟨hx, hb, hml, hown, hts⟩ hE hST hA (c_X2_goes l Z (b1 := true) (b2 := true) (b3 := false) hm9) (cwV 3 hts (lw_V q2441 q2443 qs28 q54 q2444) rfl rfl rfl (by decide +kernel) ⟨(Nat.le_of_ble_eq_true rfl), (Nat.le_of_ble_eq_true rfl)⟩) hM hS mm_cX2 hm9 rfl hl.1 (Nat.le_of_ble_eq_true rfl) dX2_made_159 rfl ⟨(Nat.le_of_ble_eq_true rfl), (Nat.le_of_ble_eq_true rfl)⟩ (fun _ _ _ _ _ _ h9 => h9.elim) (fun v_11 M_12 H locs hp_13 hM hS => ?_)
                obtain ⟨rfl, e0M_12⟩ := hp_13
                have eM_12 : M_12 = mm_U M a (.inr (1, [.int (nI T.length), .ref kd', .ref wh', .ref f1, .ref f2, .ref f3, .ref wg, .int ea, .int sp, va_rf rt, .int 3, .int ak, .int wr, .ref pl, .int tk, .int (mm_b fa), .long st])) := e0M_12
                rw [eM_12] at hM
                have hc_14 : (mm_U M a (.inr (1, [.int (nI T.length), .ref kd', .ref wh', .ref f1, .ref f2, .ref f3, .ref wg, .int ea, .int sp, va_rf rt, .int 3, .int ak, .int wr, .ref pl, .int tk, .int (mm_b fa), .long st]))) a = some (.inr (1, [.int (nI T.length), .ref kd', .ref wh', .ref f1, .ref f2, .ref f3, .ref wg, .int ea, .int sp, va_rf rt, .int 3, .int ak, .int wr, .ref pl, .int tk, .int (mm_b fa), .long st])) := mm_U_eq
                obtain ⟨M_15, eM_15⟩ : ∃ z, z = mm_U M a (.inr (1, [.int (nI T.length), .ref kd', .ref wh', .ref f1, .ref f2, .ref f3, .ref wg, .int ea, .int sp, va_rf rt, .int 3, .int ak, .int wr, .ref pl, .int tk, .int (mm_b fa), .long st])) := ⟨_, rfl⟩
                rw [← eM_15] at hM hc_14
                refine lv_if_eq (tgt := 178) hx hb dX2_made_162 (by decide) (fun _ => ?_) (fun h9 => absurd (by decide) h9)
                have hA8 : md_A Z M_15 kd' wh' f1 f2 f3 wg pl T := by rw [eM_15]; exact hA9.U hm9
                have hfr : ∀ q : Nat, q ≠ a → M_15 q = M q := fun q h1 => by rw [eM_15]; exact mm_U_ne h1
                refine lv_iconst (v := 0) hx hb dX2_made_178 (by decide) ?_
                exact mm_reti hx hb hr hlk hM hS (Or.inr ⟨rfl, ⟨3, hc_14, (Or.inr (Or.inr ⟨hb5.symm, [k1, k2, k3], (by rw [hsp]; exact ⟨⟨hk1, rfl, hd1⟩, ⟨hk2, rfl, hd2⟩, ⟨hk3, rfl, hd3⟩, trivial⟩), fun h9 => absurd (nI_lt (b := 120) h9.1 (by omega)) (Int32.not_lt.2 c_10), rfl⟩))⟩, hA8, fun q h1 _ => hfr q h1⟩) dX2_made_179 (Nat.le_of_ble_eq_true rfl) (Nat.le_of_ble_eq_true rfl)
              · skip
                have hw100 := pt_w_b hg30 (ps := [k1, k2, k3]) (Nat.le_of_ble_eq_true rfl)
                refine lv_iconst (v := 1) hx hb dX2_made_129 (by decide) ?_
                refine lv_aload_n hx hb dX2_made_130 rfl (lv_at hl 3 rfl) ?_
                refine lv_iload_n hx hb dX2_made_131 rfl (lv_at hl 5 rfl) ?_
                refine mm_callV (As := [.int (nI k1)]) (rest := [.int 1, .int 1, .int (mm_b true), .ref a]) ⟨hx, hb, hml, hown, hts⟩ hE hST hA (c_X2_weightOf l Z (T := T) (ps := [k1, k2, k3]) (i := 0) hm9 hg5 hl9 hgw (fun j hj => by first | (cases hj; assumption) | (simp at hj))) (cwV 1 hts (lw_V q2449 q2451 qs30 q54 q2452) rfl rfl rfl (by decide +kernel) ⟨(Nat.le_of_ble_eq_true rfl), (Nat.le_of_ble_eq_true rfl)⟩) hM hS mm_cX2 hm9 rfl hl.1 (Nat.le_of_ble_eq_true rfl) dX2_made_132 rfl ⟨(Nat.le_of_ble_eq_true rfl), (Nat.le_of_ble_eq_true rfl)⟩ (fun _ _ _ _ _ _ h9 => h9.elim) (fun v_11 M_12 H locs hp_13 hM hS => ?_)
                obtain ⟨rfl, eM_12⟩ := hp_13
                rw [eM_12] at hM
                refine lv_iadd hx hb dX2_made_135 ?_
                rw [show (1 + (nI (pt_wi T [k1, k2, k3] 0)) : Int32) = nI (1 + pt_wi T [k1, k2, k3] 0) from by rw [show (1 : Int32) = nI 1 from by decide, nI_add]]
                refine lv_aload_n hx hb dX2_made_136 rfl (lv_at hl 3 rfl) ?_
                refine lv_iload_n hx hb dX2_made_137 rfl (lv_at hl 6 rfl) ?_
                refine mm_callV (As := [.int (nI k2)]) (rest := [.int (nI (1 + pt_wi T [k1, k2, k3] 0)), .int 1, .int (mm_b true), .ref a]) ⟨hx, hb, hml, hown, hts⟩ hE hST hA (c_X2_weightOf l Z (T := T) (ps := [k1, k2, k3]) (i := 1) hm9 hg5 hl9 hgw (fun j hj => by first | (cases hj; assumption) | (simp at hj))) (cwV 1 hts (lw_V q2449 q2451 qs30 q54 q2452) rfl rfl rfl (by decide +kernel) ⟨(Nat.le_of_ble_eq_true rfl), (Nat.le_of_ble_eq_true rfl)⟩) hM hS mm_cX2 hm9 rfl hl.1 (Nat.le_of_ble_eq_true rfl) dX2_made_138 rfl ⟨(Nat.le_of_ble_eq_true rfl), (Nat.le_of_ble_eq_true rfl)⟩ (fun _ _ _ _ _ _ h9 => h9.elim) (fun v_14 M_15 H locs hp_16 hM hS => ?_)
                obtain ⟨rfl, eM_15⟩ := hp_16
                rw [eM_15] at hM
                refine lv_iadd hx hb dX2_made_141 ?_
                rw [show ((nI (1 + pt_wi T [k1, k2, k3] 0)) + (nI (pt_wi T [k1, k2, k3] 1)) : Int32) = nI (1 + pt_wi T [k1, k2, k3] 0 + pt_wi T [k1, k2, k3] 1) from nI_add _ _]
                refine lv_aload_n hx hb dX2_made_142 rfl (lv_at hl 3 rfl) ?_
                refine lv_iload hx hb dX2_made_143 (lv_at hl 0 rfl) ?_
                refine mm_callV (As := [.int (nI k3)]) (rest := [.int (nI (1 + pt_wi T [k1, k2, k3] 0 + pt_wi T [k1, k2, k3] 1)), .int 1, .int (mm_b true), .ref a]) ⟨hx, hb, hml, hown, hts⟩ hE hST hA (c_X2_weightOf l Z (T := T) (ps := [k1, k2, k3]) (i := 2) hm9 hg5 hl9 hgw (fun j hj => by first | (cases hj; assumption) | (simp at hj))) (cwV 1 hts (lw_V q2449 q2451 qs30 q54 q2452) rfl rfl rfl (by decide +kernel) ⟨(Nat.le_of_ble_eq_true rfl), (Nat.le_of_ble_eq_true rfl)⟩) hM hS mm_cX2 hm9 rfl hl.1 (Nat.le_of_ble_eq_true rfl) dX2_made_145 rfl ⟨(Nat.le_of_ble_eq_true rfl), (Nat.le_of_ble_eq_true rfl)⟩ (fun _ _ _ _ _ _ h9 => h9.elim) (fun v_17 M_18 H locs hp_19 hM hS => ?_)
                obtain ⟨rfl, eM_18⟩ := hp_19
                rw [eM_18] at hM
                refine lv_iadd hx hb dX2_made_148 ?_
                rw [show ((nI (1 + pt_wi T [k1, k2, k3] 0 + pt_wi T [k1, k2, k3] 1)) + (nI (pt_wi T [k1, k2, k3] 2)) : Int32) = nI (1 + pt_wi T [k1, k2, k3] 0 + pt_wi T [k1, k2, k3] 1 + pt_wi T [k1, k2, k3] 2) from nI_add _ _]
                rw [show (nI (1 + pt_wi T [k1, k2, k3] 0 + pt_wi T [k1, k2, k3] 1 + pt_wi T [k1, k2, k3] 2) : Int32) = nI (pt_w T [k1, k2, k3]) from congrArg nI (pt_w_sum (ps := [k1, k2, k3]) (Nat.le_of_ble_eq_true rfl))]
                refine lv_bipush (v := 30) hx hb dX2_made_149 (by decide) ?_
                refine lv_icmp_gt (tgt := 158) hx hb dX2_made_151 (by decide) (fun c_20 => ?_) (fun c_20 => ?_)
                · skip
                  refine lv_iconst (v := 0) hx hb dX2_made_158 (by decide) ?_
                  refine mm_callV (As := [.int (mm_b true), .int (mm_b true), .int (mm_b false)]) (rest := []) ⟨hx, hb, hml, hown, hts⟩ hE hST hA (c_X2_goes l Z (b1 := true) (b2 := true) (b3 := false) hm9) (cwV 3 hts (lw_V q2441 q2443 qs28 q54 q2444) rfl rfl rfl (by decide +kernel) ⟨(Nat.le_of_ble_eq_true rfl), (Nat.le_of_ble_eq_true rfl)⟩) hM hS mm_cX2 hm9 rfl hl.1 (Nat.le_of_ble_eq_true rfl) dX2_made_159 rfl ⟨(Nat.le_of_ble_eq_true rfl), (Nat.le_of_ble_eq_true rfl)⟩ (fun _ _ _ _ _ _ h9 => h9.elim) (fun v_21 M_22 H locs hp_23 hM hS => ?_)
                  obtain ⟨rfl, e0M_22⟩ := hp_23
                  have eM_22 : M_22 = mm_U M a (.inr (1, [.int (nI T.length), .ref kd', .ref wh', .ref f1, .ref f2, .ref f3, .ref wg, .int ea, .int sp, va_rf rt, .int 3, .int ak, .int wr, .ref pl, .int tk, .int (mm_b fa), .long st])) := e0M_22
                  rw [eM_22] at hM
                  have hc_24 : (mm_U M a (.inr (1, [.int (nI T.length), .ref kd', .ref wh', .ref f1, .ref f2, .ref f3, .ref wg, .int ea, .int sp, va_rf rt, .int 3, .int ak, .int wr, .ref pl, .int tk, .int (mm_b fa), .long st]))) a = some (.inr (1, [.int (nI T.length), .ref kd', .ref wh', .ref f1, .ref f2, .ref f3, .ref wg, .int ea, .int sp, va_rf rt, .int 3, .int ak, .int wr, .ref pl, .int tk, .int (mm_b fa), .long st])) := mm_U_eq
                  obtain ⟨M_25, eM_25⟩ : ∃ z, z = mm_U M a (.inr (1, [.int (nI T.length), .ref kd', .ref wh', .ref f1, .ref f2, .ref f3, .ref wg, .int ea, .int sp, va_rf rt, .int 3, .int ak, .int wr, .ref pl, .int tk, .int (mm_b fa), .long st])) := ⟨_, rfl⟩
                  rw [← eM_25] at hM hc_24
                  refine lv_if_eq (tgt := 178) hx hb dX2_made_162 (by decide) (fun _ => ?_) (fun h9 => absurd (by decide) h9)
                  have hA8 : md_A Z M_25 kd' wh' f1 f2 f3 wg pl T := by rw [eM_25]; exact hA9.U hm9
                  have hfr : ∀ q : Nat, q ≠ a → M_25 q = M q := fun q h1 => by rw [eM_25]; exact mm_U_ne h1
                  refine lv_iconst (v := 0) hx hb dX2_made_178 (by decide) ?_
                  exact mm_reti hx hb hr hlk hM hS (Or.inr ⟨rfl, ⟨3, hc_24, (Or.inr (Or.inr ⟨hb5.symm, [k1, k2, k3], (by rw [hsp]; exact ⟨⟨hk1, rfl, hd1⟩, ⟨hk2, rfl, hd2⟩, ⟨hk3, rfl, hd3⟩, trivial⟩), fun h9 => absurd (nI_le (b := 30) h9.2 (by omega)) (Int32.not_le.2 c_20), rfl⟩))⟩, hA8, fun q h1 _ => hfr q h1⟩) dX2_made_179 (Nat.le_of_ble_eq_true rfl) (Nat.le_of_ble_eq_true rfl)
                · skip
                  have hok : T.length < 120 ∧ pt_w T [k1, k2, k3] ≤ 30 := ⟨(nI_ltI (b := 120) (by omega) (by omega)).1 (Int32.not_le.1 c_10), (nI_leI (b := 30) (by omega) (by omega)).1 (Int32.not_lt.1 c_20)⟩
                  refine lv_iconst (v := 1) hx hb dX2_made_154 (by decide) ?_
                  refine lv_goto (tgt := 159) hx hb dX2_made_155 (by decide) ?_
                  refine mm_callV (As := [.int (mm_b true), .int (mm_b true), .int (mm_b true)]) (rest := []) ⟨hx, hb, hml, hown, hts⟩ hE hST hA (c_X2_goes l Z (b1 := true) (b2 := true) (b3 := true) hm9) (cwV 3 hts (lw_V q2441 q2443 qs28 q54 q2444) rfl rfl rfl (by decide +kernel) ⟨(Nat.le_of_ble_eq_true rfl), (Nat.le_of_ble_eq_true rfl)⟩) hM hS mm_cX2 hm9 rfl hl.1 (Nat.le_of_ble_eq_true rfl) dX2_made_159 rfl ⟨(Nat.le_of_ble_eq_true rfl), (Nat.le_of_ble_eq_true rfl)⟩ (fun _ _ _ _ _ _ h9 => h9.elim) (fun v_21 M_22 H locs hp_23 hM hS => ?_)
                  obtain ⟨rfl, e0M_22⟩ := hp_23
                  have eM_22 : M_22 = mm_U M a (.inr (1, [.int (nI T.length), .ref kd', .ref wh', .ref f1, .ref f2, .ref f3, .ref wg, .int ea, .int sp, va_rf rt, .int 0, .int ak, .int wr, .ref pl, .int tk, .int (mm_b fa), .long st])) := e0M_22
                  rw [eM_22] at hM
                  have hc_24 : (mm_U M a (.inr (1, [.int (nI T.length), .ref kd', .ref wh', .ref f1, .ref f2, .ref f3, .ref wg, .int ea, .int sp, va_rf rt, .int 0, .int ak, .int wr, .ref pl, .int tk, .int (mm_b fa), .long st]))) a = some (.inr (1, [.int (nI T.length), .ref kd', .ref wh', .ref f1, .ref f2, .ref f3, .ref wg, .int ea, .int sp, va_rf rt, .int 0, .int ak, .int wr, .ref pl, .int tk, .int (mm_b fa), .long st])) := mm_U_eq
                  obtain ⟨M_25, eM_25⟩ : ∃ z, z = mm_U M a (.inr (1, [.int (nI T.length), .ref kd', .ref wh', .ref f1, .ref f2, .ref f3, .ref wg, .int ea, .int sp, va_rf rt, .int 0, .int ak, .int wr, .ref pl, .int tk, .int (mm_b fa), .long st])) := ⟨_, rfl⟩
                  rw [← eM_25] at hM hc_24
                  refine lv_if_eq (tgt := 178) hx hb dX2_made_162 (by decide) (fun h9 => absurd h9 (by decide)) (fun _ => ?_)
                  have hA8 : md_A Z M_25 kd' wh' f1 f2 f3 wg pl T := by rw [eM_25]; exact hA9.U hm9
                  have hfr : ∀ q : Nat, q ≠ a → M_25 q = M q := fun q h1 => by rw [eM_25]; exact mm_U_ne h1
                  refine lv_aload_n hx hb dX2_made_165 rfl (lv_at hl 3 rfl) ?_
                  refine lv_iload_n hx hb dX2_made_166 rfl (lv_at hl 4 rfl) ?_
                  refine lv_iconst (v := 0) hx hb dX2_made_167 (by decide) ?_
                  refine lv_iload_n hx hb dX2_made_168 rfl (lv_at hl 5 rfl) ?_
                  refine lv_iload_n hx hb dX2_made_169 rfl (lv_at hl 6 rfl) ?_
                  refine lv_iload hx hb dX2_made_170 (lv_at hl 0 rfl) ?_
                  have hmk : ∀ j ∈ ([k1, k2, k3] : List Nat), j < T.length := by intro j hj; simp only [List.mem_cons, List.not_mem_nil, or_false] at hj; rcases hj with rfl | rfl | rfl <;> assumption
                  refine mm_callV (As := [.int kd, .int 0, .int (nI k1), .int (nI k2), .int (nI k3)]) (rest := []) ⟨hx, hb, hml, hown, hts⟩ hE hST hA (c_X2_makes l Z (r := (kd, 0, 0, [k1, k2, k3], pt_w T [k1, k2, k3])) hc_24 hA8 hok.1 (by decide : 3 ≤ 3) hmk rfl (hits _ _) rfl hok.2) (cwV 5 hts (lw_V q2445 q2447 qs29 q54 q2448) rfl rfl rfl (by decide +kernel) ⟨(Nat.le_of_ble_eq_true rfl), (Nat.le_of_ble_eq_true rfl)⟩) hM hS mm_cX2 hc_24 rfl hl.1 (Nat.le_of_ble_eq_true rfl) dX2_made_172 rfl ⟨(Nat.le_of_ble_eq_true rfl), (Nat.le_of_ble_eq_true rfl)⟩ (fun _ _ _ _ _ _ h9 => h9.elim) (fun v_26 M_27 H locs hp_28 hM hS => ?_)
                  obtain ⟨rfl, hm7, hA7, hfr7⟩ := hp_28
                  refine lv_goto (tgt := 179) hx hb dX2_made_175 (by decide) ?_
                  exact mm_reti hx hb hr hlk hM hS (Or.inl ⟨hb5.symm, [k1, k2, k3], (by rw [hsp]; exact ⟨⟨hk1, rfl, hd1⟩, ⟨hk2, rfl, hd2⟩, ⟨hk3, rfl, hd3⟩, trivial⟩), hok, rfl, hm7, hA7, fun q h1 h2 => (hfr7 q h1 h2).trans (hfr q h1)⟩) dX2_made_179 (Nat.le_of_ble_eq_true rfl) (Nat.le_of_ble_eq_true rfl)
          · skip
            have hsp : ∀ i1 i2 i3 : Int32, pm_spec kd i1 i2 i3 = [(false, i1), (false, i2)] := by intro i1 i2 i3; unfold pm_spec; rw [show (kd == 12) = false by simp [h12], show (kd == 11) = false by simp [h11]]
            refine lv_icmp_ne (tgt := 89) hx hb dX2_made_77 (by decide) (fun _ => ?_) (fun h9 => absurd h9 h12)
            refine lv_iconst (v := 1) hx hb dX2_made_89 (by decide) ?_
            refine lv_goto (tgt := 94) hx hb dX2_made_90 (by decide) ?_
            refine lv_istore hx hb dX2_made_94 hl (by decide) rfl (fun ls hl => ?_)
            replace hl : lv_has ls 8 [(6, .int 1), (5, .int (mm_b true)), (0, .ref a), (1, .int kd), (2, .int (nI k1)), (3, .int (nI k2)), (4, .int i3)] := hl
            refine lv_iload_n hx hb dX2_made_96 rfl (lv_at hl 3 rfl) ?_
            refine lv_bipush (v := 12) hx hb dX2_made_97 (by decide) ?_
            refine lv_icmp_ne (tgt := 107) hx hb dX2_made_99 (by decide) (fun _ => ?_) (fun h9 => absurd h9 h12)
            refine lv_iconst (v := -1) hx hb dX2_made_107 (by decide) ?_
            refine lv_istore hx hb dX2_made_108 hl (by decide) rfl (fun ls hl => ?_)
            replace hl : lv_has ls 8 [(7, .int (-1)), (6, .int 1), (5, .int (mm_b true)), (0, .ref a), (1, .int kd), (2, .int (nI k1)), (3, .int (nI k2)), (4, .int i3)] := hl
            refine lv_aload_n hx hb dX2_made_110 rfl (lv_at hl 3 rfl) ?_
            refine lv_iload hx hb dX2_made_111 (lv_at hl 2 rfl) ?_
            refine lv_iload hx hb dX2_made_113 (lv_at hl 1 rfl) ?_
            refine lv_iload hx hb dX2_made_115 (lv_at hl 1 rfl) ?_
            refine lv_if_eq (tgt := 158) hx hb dX2_made_117 (by decide) (fun h9 => absurd h9 (by decide)) (fun _ => ?_)
            refine lv_aload_n hx hb dX2_made_120 rfl (lv_at hl 3 rfl) ?_
            refine va_get (D := Z.1) (ci := 1) (v := .int (nI T.length)) (C := RX2) (T := TX2) (N := 17) hx hb hts in_X2 hown hE.1 (hM.at hm9) 0 rfl mm_cX2 0 (by decide) (hts _ q2378) (fun _ h9 => h9) rfl dX2_made_121 ?_
            refine lv_bipush (v := 120) hx hb dX2_made_124 (by decide) ?_
            refine lv_icmp_ge (tgt := 158) hx hb dX2_made_126 (by decide) (fun c_7 => ?_) (fun c_7 => ?_)
            · skip
              refine lv_iconst (v := 0) hx hb dX2_made_158 (by decide) ?_
              refine mm_callV (As := [.int (mm_b true), .int (mm_b true), .int (mm_b false)]) (rest := []) ⟨hx, hb, hml, hown, hts⟩ hE hST hA (c_X2_goes l Z (b1 := true) (b2 := true) (b3 := false) hm9) (cwV 3 hts (lw_V q2441 q2443 qs28 q54 q2444) rfl rfl rfl (by decide +kernel) ⟨(Nat.le_of_ble_eq_true rfl), (Nat.le_of_ble_eq_true rfl)⟩) hM hS mm_cX2 hm9 rfl hl.1 (Nat.le_of_ble_eq_true rfl) dX2_made_159 rfl ⟨(Nat.le_of_ble_eq_true rfl), (Nat.le_of_ble_eq_true rfl)⟩ (fun _ _ _ _ _ _ h9 => h9.elim) (fun v_8 M_9 H locs hp_10 hM hS => ?_)
              obtain ⟨rfl, e0M_9⟩ := hp_10
              have eM_9 : M_9 = mm_U M a (.inr (1, [.int (nI T.length), .ref kd', .ref wh', .ref f1, .ref f2, .ref f3, .ref wg, .int ea, .int sp, va_rf rt, .int 3, .int ak, .int wr, .ref pl, .int tk, .int (mm_b fa), .long st])) := e0M_9
              rw [eM_9] at hM
              have hc_11 : (mm_U M a (.inr (1, [.int (nI T.length), .ref kd', .ref wh', .ref f1, .ref f2, .ref f3, .ref wg, .int ea, .int sp, va_rf rt, .int 3, .int ak, .int wr, .ref pl, .int tk, .int (mm_b fa), .long st]))) a = some (.inr (1, [.int (nI T.length), .ref kd', .ref wh', .ref f1, .ref f2, .ref f3, .ref wg, .int ea, .int sp, va_rf rt, .int 3, .int ak, .int wr, .ref pl, .int tk, .int (mm_b fa), .long st])) := mm_U_eq
              obtain ⟨M_12, eM_12⟩ : ∃ z, z = mm_U M a (.inr (1, [.int (nI T.length), .ref kd', .ref wh', .ref f1, .ref f2, .ref f3, .ref wg, .int ea, .int sp, va_rf rt, .int 3, .int ak, .int wr, .ref pl, .int tk, .int (mm_b fa), .long st])) := ⟨_, rfl⟩
              rw [← eM_12] at hM hc_11
              refine lv_if_eq (tgt := 178) hx hb dX2_made_162 (by decide) (fun _ => ?_) (fun h9 => absurd (by decide) h9)
              have hA8 : md_A Z M_12 kd' wh' f1 f2 f3 wg pl T := by rw [eM_12]; exact hA9.U hm9
              have hfr : ∀ q : Nat, q ≠ a → M_12 q = M q := fun q h1 => by rw [eM_12]; exact mm_U_ne h1
              refine lv_iconst (v := 0) hx hb dX2_made_178 (by decide) ?_
              exact mm_reti hx hb hr hlk hM hS (Or.inr ⟨rfl, ⟨3, hc_11, (Or.inr (Or.inr ⟨hb5.symm, [k1, k2], (by rw [hsp]; exact ⟨⟨hk1, rfl, hd1⟩, ⟨hk2, rfl, hd2⟩, trivial⟩), fun h9 => absurd (nI_lt (b := 120) h9.1 (by omega)) (Int32.not_lt.2 c_7), rfl⟩))⟩, hA8, fun q h1 _ => hfr q h1⟩) dX2_made_179 (Nat.le_of_ble_eq_true rfl) (Nat.le_of_ble_eq_true rfl)
            · skip
              have hw100 := pt_w_b hg30 (ps := [k1, k2]) (Nat.le_of_ble_eq_true rfl)
              refine lv_iconst (v := 1) hx hb dX2_made_129 (by decide) ?_
              refine lv_aload_n hx hb dX2_made_130 rfl (lv_at hl 3 rfl) ?_
              refine lv_iload_n hx hb dX2_made_131 rfl (lv_at hl 5 rfl) ?_
              refine mm_callV (As := [.int (nI k1)]) (rest := [.int 1, .int 1, .int (mm_b true), .ref a]) ⟨hx, hb, hml, hown, hts⟩ hE hST hA (c_X2_weightOf l Z (T := T) (ps := [k1, k2]) (i := 0) hm9 hg5 hl9 hgw (fun j hj => by first | (cases hj; assumption) | (simp at hj))) (cwV 1 hts (lw_V q2449 q2451 qs30 q54 q2452) rfl rfl rfl (by decide +kernel) ⟨(Nat.le_of_ble_eq_true rfl), (Nat.le_of_ble_eq_true rfl)⟩) hM hS mm_cX2 hm9 rfl hl.1 (Nat.le_of_ble_eq_true rfl) dX2_made_132 rfl ⟨(Nat.le_of_ble_eq_true rfl), (Nat.le_of_ble_eq_true rfl)⟩ (fun _ _ _ _ _ _ h9 => h9.elim) (fun v_8 M_9 H locs hp_10 hM hS => ?_)
              obtain ⟨rfl, eM_9⟩ := hp_10
              rw [eM_9] at hM
              refine lv_iadd hx hb dX2_made_135 ?_
              rw [show (1 + (nI (pt_wi T [k1, k2] 0)) : Int32) = nI (1 + pt_wi T [k1, k2] 0) from by rw [show (1 : Int32) = nI 1 from by decide, nI_add]]
              refine lv_aload_n hx hb dX2_made_136 rfl (lv_at hl 3 rfl) ?_
              refine lv_iload_n hx hb dX2_made_137 rfl (lv_at hl 6 rfl) ?_
              refine mm_callV (As := [.int (nI k2)]) (rest := [.int (nI (1 + pt_wi T [k1, k2] 0)), .int 1, .int (mm_b true), .ref a]) ⟨hx, hb, hml, hown, hts⟩ hE hST hA (c_X2_weightOf l Z (T := T) (ps := [k1, k2]) (i := 1) hm9 hg5 hl9 hgw (fun j hj => by first | (cases hj; assumption) | (simp at hj))) (cwV 1 hts (lw_V q2449 q2451 qs30 q54 q2452) rfl rfl rfl (by decide +kernel) ⟨(Nat.le_of_ble_eq_true rfl), (Nat.le_of_ble_eq_true rfl)⟩) hM hS mm_cX2 hm9 rfl hl.1 (Nat.le_of_ble_eq_true rfl) dX2_made_138 rfl ⟨(Nat.le_of_ble_eq_true rfl), (Nat.le_of_ble_eq_true rfl)⟩ (fun _ _ _ _ _ _ h9 => h9.elim) (fun v_11 M_12 H locs hp_13 hM hS => ?_)
              obtain ⟨rfl, eM_12⟩ := hp_13
              rw [eM_12] at hM
              refine lv_iadd hx hb dX2_made_141 ?_
              rw [show ((nI (1 + pt_wi T [k1, k2] 0)) + (nI (pt_wi T [k1, k2] 1)) : Int32) = nI (1 + pt_wi T [k1, k2] 0 + pt_wi T [k1, k2] 1) from nI_add _ _]
              refine lv_aload_n hx hb dX2_made_142 rfl (lv_at hl 3 rfl) ?_
              refine lv_iload hx hb dX2_made_143 (lv_at hl 0 rfl) ?_
              refine mm_callV (As := [.int (-1)]) (rest := [.int (nI (1 + pt_wi T [k1, k2] 0 + pt_wi T [k1, k2] 1)), .int 1, .int (mm_b true), .ref a]) ⟨hx, hb, hml, hown, hts⟩ hE hST hA (c_X2_weightOf l Z (T := T) (ps := [k1, k2]) (i := 2) hm9 hg5 hl9 hgw (fun j hj => by first | (cases hj; assumption) | (simp at hj))) (cwV 1 hts (lw_V q2449 q2451 qs30 q54 q2452) rfl rfl rfl (by decide +kernel) ⟨(Nat.le_of_ble_eq_true rfl), (Nat.le_of_ble_eq_true rfl)⟩) hM hS mm_cX2 hm9 rfl hl.1 (Nat.le_of_ble_eq_true rfl) dX2_made_145 rfl ⟨(Nat.le_of_ble_eq_true rfl), (Nat.le_of_ble_eq_true rfl)⟩ (fun _ _ _ _ _ _ h9 => h9.elim) (fun v_14 M_15 H locs hp_16 hM hS => ?_)
              obtain ⟨rfl, eM_15⟩ := hp_16
              rw [eM_15] at hM
              refine lv_iadd hx hb dX2_made_148 ?_
              rw [show ((nI (1 + pt_wi T [k1, k2] 0 + pt_wi T [k1, k2] 1)) + (nI (pt_wi T [k1, k2] 2)) : Int32) = nI (1 + pt_wi T [k1, k2] 0 + pt_wi T [k1, k2] 1 + pt_wi T [k1, k2] 2) from nI_add _ _]
              rw [show (nI (1 + pt_wi T [k1, k2] 0 + pt_wi T [k1, k2] 1 + pt_wi T [k1, k2] 2) : Int32) = nI (pt_w T [k1, k2]) from congrArg nI (pt_w_sum (ps := [k1, k2]) (Nat.le_of_ble_eq_true rfl))]
              refine lv_bipush (v := 30) hx hb dX2_made_149 (by decide) ?_
              refine lv_icmp_gt (tgt := 158) hx hb dX2_made_151 (by decide) (fun c_17 => ?_) (fun c_17 => ?_)
              · skip
                refine lv_iconst (v := 0) hx hb dX2_made_158 (by decide) ?_
                refine mm_callV (As := [.int (mm_b true), .int (mm_b true), .int (mm_b false)]) (rest := []) ⟨hx, hb, hml, hown, hts⟩ hE hST hA (c_X2_goes l Z (b1 := true) (b2 := true) (b3 := false) hm9) (cwV 3 hts (lw_V q2441 q2443 qs28 q54 q2444) rfl rfl rfl (by decide +kernel) ⟨(Nat.le_of_ble_eq_true rfl), (Nat.le_of_ble_eq_true rfl)⟩) hM hS mm_cX2 hm9 rfl hl.1 (Nat.le_of_ble_eq_true rfl) dX2_made_159 rfl ⟨(Nat.le_of_ble_eq_true rfl), (Nat.le_of_ble_eq_true rfl)⟩ (fun _ _ _ _ _ _ h9 => h9.elim) (fun v_18 M_19 H locs hp_20 hM hS => ?_)
                obtain ⟨rfl, e0M_19⟩ := hp_20
                have eM_19 : M_19 = mm_U M a (.inr (1, [.int (nI T.length), .ref kd', .ref wh', .ref f1, .ref f2, .ref f3, .ref wg, .int ea, .int sp, va_rf rt, .int 3, .int ak, .int wr, .ref pl, .int tk, .int (mm_b fa), .long st])) := e0M_19
                rw [eM_19] at hM
                have hc_21 : (mm_U M a (.inr (1, [.int (nI T.length), .ref kd', .ref wh', .ref f1, .ref f2, .ref f3, .ref wg, .int ea, .int sp, va_rf rt, .int 3, .int ak, .int wr, .ref pl, .int tk, .int (mm_b fa), .long st]))) a = some (.inr (1, [.int (nI T.length), .ref kd', .ref wh', .ref f1, .ref f2, .ref f3, .ref wg, .int ea, .int sp, va_rf rt, .int 3, .int ak, .int wr, .ref pl, .int tk, .int (mm_b fa), .long st])) := mm_U_eq
                obtain ⟨M_22, eM_22⟩ : ∃ z, z = mm_U M a (.inr (1, [.int (nI T.length), .ref kd', .ref wh', .ref f1, .ref f2, .ref f3, .ref wg, .int ea, .int sp, va_rf rt, .int 3, .int ak, .int wr, .ref pl, .int tk, .int (mm_b fa), .long st])) := ⟨_, rfl⟩
                rw [← eM_22] at hM hc_21
                refine lv_if_eq (tgt := 178) hx hb dX2_made_162 (by decide) (fun _ => ?_) (fun h9 => absurd (by decide) h9)
                have hA8 : md_A Z M_22 kd' wh' f1 f2 f3 wg pl T := by rw [eM_22]; exact hA9.U hm9
                have hfr : ∀ q : Nat, q ≠ a → M_22 q = M q := fun q h1 => by rw [eM_22]; exact mm_U_ne h1
                refine lv_iconst (v := 0) hx hb dX2_made_178 (by decide) ?_
                exact mm_reti hx hb hr hlk hM hS (Or.inr ⟨rfl, ⟨3, hc_21, (Or.inr (Or.inr ⟨hb5.symm, [k1, k2], (by rw [hsp]; exact ⟨⟨hk1, rfl, hd1⟩, ⟨hk2, rfl, hd2⟩, trivial⟩), fun h9 => absurd (nI_le (b := 30) h9.2 (by omega)) (Int32.not_le.2 c_17), rfl⟩))⟩, hA8, fun q h1 _ => hfr q h1⟩) dX2_made_179 (Nat.le_of_ble_eq_true rfl) (Nat.le_of_ble_eq_true rfl)
              · skip
                have hok : T.length < 120 ∧ pt_w T [k1, k2] ≤ 30 := ⟨(nI_ltI (b := 120) (by omega) (by omega)).1 (Int32.not_le.1 c_7), (nI_leI (b := 30) (by omega) (by omega)).1 (Int32.not_lt.1 c_17)⟩
                refine lv_iconst (v := 1) hx hb dX2_made_154 (by decide) ?_
                refine lv_goto (tgt := 159) hx hb dX2_made_155 (by decide) ?_
                refine mm_callV (As := [.int (mm_b true), .int (mm_b true), .int (mm_b true)]) (rest := []) ⟨hx, hb, hml, hown, hts⟩ hE hST hA (c_X2_goes l Z (b1 := true) (b2 := true) (b3 := true) hm9) (cwV 3 hts (lw_V q2441 q2443 qs28 q54 q2444) rfl rfl rfl (by decide +kernel) ⟨(Nat.le_of_ble_eq_true rfl), (Nat.le_of_ble_eq_true rfl)⟩) hM hS mm_cX2 hm9 rfl hl.1 (Nat.le_of_ble_eq_true rfl) dX2_made_159 rfl ⟨(Nat.le_of_ble_eq_true rfl), (Nat.le_of_ble_eq_true rfl)⟩ (fun _ _ _ _ _ _ h9 => h9.elim) (fun v_18 M_19 H locs hp_20 hM hS => ?_)
                obtain ⟨rfl, e0M_19⟩ := hp_20
                have eM_19 : M_19 = mm_U M a (.inr (1, [.int (nI T.length), .ref kd', .ref wh', .ref f1, .ref f2, .ref f3, .ref wg, .int ea, .int sp, va_rf rt, .int 0, .int ak, .int wr, .ref pl, .int tk, .int (mm_b fa), .long st])) := e0M_19
                rw [eM_19] at hM
                have hc_21 : (mm_U M a (.inr (1, [.int (nI T.length), .ref kd', .ref wh', .ref f1, .ref f2, .ref f3, .ref wg, .int ea, .int sp, va_rf rt, .int 0, .int ak, .int wr, .ref pl, .int tk, .int (mm_b fa), .long st]))) a = some (.inr (1, [.int (nI T.length), .ref kd', .ref wh', .ref f1, .ref f2, .ref f3, .ref wg, .int ea, .int sp, va_rf rt, .int 0, .int ak, .int wr, .ref pl, .int tk, .int (mm_b fa), .long st])) := mm_U_eq
                obtain ⟨M_22, eM_22⟩ : ∃ z, z = mm_U M a (.inr (1, [.int (nI T.length), .ref kd', .ref wh', .ref f1, .ref f2, .ref f3, .ref wg, .int ea, .int sp, va_rf rt, .int 0, .int ak, .int wr, .ref pl, .int tk, .int (mm_b fa), .long st])) := ⟨_, rfl⟩
                rw [← eM_22] at hM hc_21
                refine lv_if_eq (tgt := 178) hx hb dX2_made_162 (by decide) (fun h9 => absurd h9 (by decide)) (fun _ => ?_)
                have hA8 : md_A Z M_22 kd' wh' f1 f2 f3 wg pl T := by rw [eM_22]; exact hA9.U hm9
                have hfr : ∀ q : Nat, q ≠ a → M_22 q = M q := fun q h1 => by rw [eM_22]; exact mm_U_ne h1
                refine lv_aload_n hx hb dX2_made_165 rfl (lv_at hl 3 rfl) ?_
                refine lv_iload_n hx hb dX2_made_166 rfl (lv_at hl 4 rfl) ?_
                refine lv_iconst (v := 0) hx hb dX2_made_167 (by decide) ?_
                refine lv_iload_n hx hb dX2_made_168 rfl (lv_at hl 5 rfl) ?_
                refine lv_iload_n hx hb dX2_made_169 rfl (lv_at hl 6 rfl) ?_
                refine lv_iload hx hb dX2_made_170 (lv_at hl 0 rfl) ?_
                have hmk : ∀ j ∈ ([k1, k2] : List Nat), j < T.length := by intro j hj; simp only [List.mem_cons, List.not_mem_nil, or_false] at hj; rcases hj with rfl | rfl <;> assumption
                refine mm_callV (As := [.int kd, .int 0, .int (nI k1), .int (nI k2), .int (-1)]) (rest := []) ⟨hx, hb, hml, hown, hts⟩ hE hST hA (c_X2_makes l Z (r := (kd, 0, 0, [k1, k2], pt_w T [k1, k2])) hc_21 hA8 hok.1 (by decide : 2 ≤ 3) hmk rfl (hits _ _) rfl hok.2) (cwV 5 hts (lw_V q2445 q2447 qs29 q54 q2448) rfl rfl rfl (by decide +kernel) ⟨(Nat.le_of_ble_eq_true rfl), (Nat.le_of_ble_eq_true rfl)⟩) hM hS mm_cX2 hc_21 rfl hl.1 (Nat.le_of_ble_eq_true rfl) dX2_made_172 rfl ⟨(Nat.le_of_ble_eq_true rfl), (Nat.le_of_ble_eq_true rfl)⟩ (fun _ _ _ _ _ _ h9 => h9.elim) (fun v_23 M_24 H locs hp_25 hM hS => ?_)
                obtain ⟨rfl, hm7, hA7, hfr7⟩ := hp_25
                refine lv_goto (tgt := 179) hx hb dX2_made_175 (by decide) ?_
                exact mm_reti hx hb hr hlk hM hS (Or.inl ⟨hb5.symm, [k1, k2], (by rw [hsp]; exact ⟨⟨hk1, rfl, hd1⟩, ⟨hk2, rfl, hd2⟩, trivial⟩), hok, rfl, hm7, hA7, fun q h1 h2 => (hfr7 q h1 h2).trans (hfr q h1)⟩) dX2_made_179 (Nat.le_of_ble_eq_true rfl) (Nat.le_of_ble_eq_true rfl)
