/-! ===== caseOf; the values' parts ===== -/
set_option maxRecDepth 100000
set_option maxHeartbeats 4000000 in
set_option maxRecDepth 100000 in
theorem c_X30_caseOf (l : Launch) (Z : mm_G) {M : mm_M} {ad : List Nat} {F : Nat → Option Nat} {T : List pt_R} (hT9 : ct_T Z M ad F T) {f j lb t' z0 : Nat} (hj9 : ad[j]? = some z0) (he9 : ev_case T lb f j = some t') : mm_C l Z yX30_caseOf (ws_ yX30_caseOf cX30_caseOf 3 (some (.object "RowenTongue$Term"))) { frames := 0, cells := 0, slots := 0, locals := 0 } [.int (nI lb), .ref z0] M (fun v M' => (∃ z' : Nat, ad[t']? = some z' ∧ v = some (.ref z')) ∧ M' = M) mm_nx := by
  refine mm_ofW (cc := cX30_caseOf) (maxL := 3) (ret := (some (.object "RowenTongue$Term"))) (by decide) rfl (Nat.le_of_ble_eq_true rfl) ?_
  intro p e s m below meth c A ls hx hb hr hlk hml hown hmn hts htab hE hST hA hM hS hl
  replace hl : lv_has ls 3 [(0, .int (nI lb)), (1, .ref z0)] := hl
  refine lv_aload_n hx hb dX30_caseOf_0 rfl (lv_at hl 1 rfl) ?_
  refine lv_astore_n hx hb dX30_caseOf_1 rfl hl (by decide) rfl (fun ls hl => ?_)
  replace hl : lv_has ls 3 [(2, .ref z0), (0, .int (nI lb)), (1, .ref z0)] := hl
  obtain ⟨z, ez⟩ : ∃ z, z = z0 := ⟨_, rfl⟩
  replace hl : lv_has ls 3 [(2, .ref z), (0, .int (nI lb)), (1, .ref z0)] := by rw [ez]; exact hl
  replace hj9 : ad[j]? = some z := by rw [ez]; exact hj9
  clear ez
  induction f generalizing j z ls with
  | zero => simp [ev_case] at he9
  | succ f ih =>
    obtain ⟨r, hr9⟩ : ∃ r, T[j]? = some r := by cases h : T[j]? with
    | none => simp [ev_case, h] at he9
    | some r => exact ⟨r, rfl⟩
    simp only [ev_case, hr9] at he9
    obtain ⟨⟨-, hn9⟩, z', q, g, h1, h2, h3, h4⟩ := hT9.2 j r hr9
    obtain rfl : z' = z := Option.some.inj (h1.symm.trans hj9)
    refine lv_aload_n hx hb dX30_caseOf_2 rfl (lv_at hl 0 rfl) ?_
    refine va_getN (D := Z.1) (ci := 2) (v := .int r.1) (C := RX3) (T := TX3) (N := 7) hx hb hts in_X3 hown hE.1 (hM.at h2) 0 rfl mm_cX3 1 (by decide) (va_Nw.use rfl (hE.2.1 _ q286 rfl)) (fun _ h9 => h9) rfl dX30_caseOf_3 ?_
    refine lv_bipush (v := 17) hx hb dX30_caseOf_6 (by decide) ?_
    refine lv_icmp_ne (tgt := 29) hx hb dX30_caseOf_8 (by decide) (fun c_1 => ?_) (fun c_1 => ?_)
    · skip
      rw [if_neg (fun h => c_1 h.1)] at he9
      cases he9
      refine lv_aload_n hx hb dX30_caseOf_29 rfl (lv_at hl 0 rfl) ?_
      exact mm_reta hx hb hr (Or.inl ⟨_, rfl⟩) (Or.inr ⟨_, rfl⟩) hlk hM hS ⟨⟨z', hj9, rfl⟩, rfl⟩ dX30_caseOf_30 (Nat.le_of_ble_eq_true rfl) (Nat.le_of_ble_eq_true rfl)
    · skip
      refine lv_aload_n hx hb dX30_caseOf_11 rfl (lv_at hl 0 rfl) ?_
      refine va_getN (D := Z.1) (ci := 2) (v := .int r.2.1) (C := RX3) (T := TX3) (N := 7) hx hb hts in_X3 hown hE.1 (hM.at h2) 0 rfl mm_cX3 2 (by decide) (va_Nw.use rfl (hE.2.1 _ q289 rfl)) (fun _ h9 => h9) rfl dX30_caseOf_12 ?_
      refine lv_iload_n hx hb dX30_caseOf_15 rfl (lv_at hl 1 rfl) ?_
      refine lv_icmp_eq (tgt := 29) hx hb dX30_caseOf_16 (by decide) (fun c_2 => ?_) (fun c_2 => ?_)
      · skip
        rw [if_neg (fun h => h.2 c_2)] at he9
        cases he9
        refine lv_aload_n hx hb dX30_caseOf_29 rfl (lv_at hl 0 rfl) ?_
        exact mm_reta hx hb hr (Or.inl ⟨_, rfl⟩) (Or.inr ⟨_, rfl⟩) hlk hM hS ⟨⟨z', hj9, rfl⟩, rfl⟩ dX30_caseOf_30 (Nat.le_of_ble_eq_true rfl) (Nat.le_of_ble_eq_true rfl)
      · skip
        rw [if_pos ⟨c_1, c_2⟩] at he9
        obtain ⟨j2, hj2⟩ : ∃ j2, r.2.2.2.1[1]? = some j2 := by cases h : r.2.2.2.1[1]? with
      | none => rw [h] at he9; cases he9
      | some j2 => exact ⟨j2, rfl⟩
        rw [hj2] at he9
        obtain ⟨-, b, hb1, hb2⟩ := h4 1 j2 hj2
        refine lv_aload_n hx hb dX30_caseOf_19 rfl (lv_at hl 0 rfl) ?_
        refine va_getN (D := Z.1) (ci := 2) (v := .ref q) (C := RX3) (T := TX3) (N := 7) hx hb hts in_X3 hown hE.1 (hM.at h2) 0 rfl mm_cX3 4 (by decide) (va_Nw.use rfl (hE.2.1 _ q295 rfl)) (fun _ h9 => h9) rfl dX30_caseOf_20 ?_
        refine lv_iconst (v := 1) hx hb dX30_caseOf_23 (by decide) ?_
        refine mm_aald (k := 1) hx hb hE hM 4 h3 rfl (by decide) (List.getElem?_eq_some_iff.mp hj2).1 (by omega) dX30_caseOf_24 ?_
        rw [hb2]
        refine lv_astore_n hx hb dX30_caseOf_25 rfl hl (by decide) rfl (fun ls hl => ?_)
        replace hl : lv_has ls 3 [(2, .ref b), (0, .int (nI lb)), (1, .ref z0)] := hl
        refine lv_goto (tgt := 2) hx hb dX30_caseOf_26 (by decide) ?_
        apply ih <;> first | exact hl | exact hb1 | exact he9 | exact hM | exact hS
set_option maxHeartbeats 4000000 in
set_option maxRecDepth 100000 in
theorem c_X33_parts (l : Launch) (Z : mm_G) {M : mm_M} {a b : Nat} {n k : Int32} (ha9 : M a = some (.inr (27, [.int n]))) (hb9 : M b = some (.inr (27, [.int k]))) : mm_C l Z yX33_parts (ws_ yX33_parts cX33_parts 3 (some (.object "java/util/ArrayList"))) { frames := 4, cells := 1, slots := 3, locals := 80 } [.ref a, .ref b] M (fun v M' => (k = n ∧ ∃ q : Nat, M q = none ∧ v = some (.ref q) ∧ M' = mm_U M q (al_E 0 (Z.2.2.1 2) 0)) ∨ (k ≠ n ∧ v = some .null ∧ M' = M)) mm_nx := by
  refine mm_ofW (cc := cX33_parts) (maxL := 3) (ret := (some (.object "java/util/ArrayList"))) (by decide) rfl (Nat.le_of_ble_eq_true rfl) ?_
  intro p e s m below meth c A ls hx hb hr hlk hml hown hmn hts htab hE hST hA hM hS hl
  replace hl : lv_has ls 3 [(0, .ref a), (1, .ref b)] := hl
  refine lv_aload_n hx hb dX33_parts_0 rfl (lv_at hl 1 rfl) ?_
  refine va_instS hx hb hown (hts _ q1897) (hE.1.1 27 _ mm_cX33).2 (mm_recv hE hM mm_cX33 hb9) dX33_parts_1 ?_
  refine lv_if_eq (tgt := 33) hx hb dX33_parts_4 (by decide) (fun h9 => absurd h9 (by decide)) (fun _ => ?_)
  refine lv_aload_n hx hb dX33_parts_7 rfl (lv_at hl 1 rfl) ?_
  refine va_castS hx hb hown (hts _ q1897) (hE.1.1 27 _ mm_cX33).2 (mm_recv hE hM mm_cX33 hb9) dX33_parts_8 ?_
  refine lv_astore_n hx hb dX33_parts_11 rfl hl (by decide) rfl (fun ls hl => ?_)
  replace hl : lv_has ls 3 [(2, .ref b), (0, .ref a), (1, .ref b)] := hl
  refine lv_aload_n hx hb dX33_parts_12 rfl (lv_at hl 0 rfl) ?_
  refine va_get (D := Z.1) (ci := 27) (v := .int k) (C := RX33) (T := TX33) (N := 1) hx hb hts in_X33 hown hE.1 (hM.at hb9) 0 rfl mm_cX33 0 (by decide) (hts _ q1832) (fun _ h9 => h9) rfl dX33_parts_13 ?_
  refine lv_aload_n hx hb dX33_parts_16 rfl (lv_at hl 1 rfl) ?_
  refine va_get (D := Z.1) (ci := 27) (v := .int n) (C := RX33) (T := TX33) (N := 1) hx hb hts in_X33 hown hE.1 (hM.at ha9) 0 rfl mm_cX33 0 (by decide) (hts _ q1832) (fun _ h9 => h9) rfl dX33_parts_17 ?_
  refine lv_icmp_ne (tgt := 33) hx hb dX33_parts_20 (by decide) (fun c_1 => ?_) (fun c_1 => ?_)
  · skip
    refine lv_null hx hb dX33_parts_33 ?_
    exact mm_reta hx hb hr (Or.inl ⟨_, rfl⟩) (Or.inl rfl) hlk hM hS (Or.inr ⟨c_1, rfl, rfl⟩) dX33_parts_34 (Nat.le_of_ble_eq_true rfl) (Nat.le_of_ble_eq_true rfl)
  · skip
    refine mm_new (D := Z.1) (ci := 41) (fs := mm_f0J2) (C := RJ2) (T := TJ2) (N := 3) hx hb hts in_J2 tyJ2 tyJ2_ok hown (hts _ q1898) (hts _ q130) (hts _ q53) hE.1 hM hS hA mm_cJ2 mm_dfJ2 (Nat.le_of_ble_eq_true rfl) (Nat.le_of_ble_eq_true rfl) dX33_parts_23 (fun q_3 H nq_2 hM hS => ?_)
    have hM : mm_P Z.1 mm_cl A (mm_U M q_3 (.inr (41, [.int 0, .null, .int 0]))) H := hM
    have ne_4 : a ≠ q_3 := (mm_neN ha9 nq_2)
    have ne_5 : b ≠ q_3 := (mm_neN hb9 nq_2)
    have hc_6 : (mm_U M q_3 (.inr (41, [.int 0, .null, .int 0]))) q_3 = some (.inr (41, [.int 0, .null, .int 0])) := mm_U_eq
    have hc_7 : (mm_U M q_3 (.inr (41, [.int 0, .null, .int 0]))) a = some (.inr (27, [.int n])) := (mm_U_ne ne_4).trans ha9
    have hc_8 : (mm_U M q_3 (.inr (41, [.int 0, .null, .int 0]))) b = some (.inr (27, [.int k])) := (mm_U_ne ne_5).trans hb9
    obtain ⟨M_9, eM_9⟩ : ∃ z, z = mm_U M q_3 (.inr (41, [.int 0, .null, .int 0])) := ⟨_, rfl⟩
    rw [← eM_9] at hM hc_7 hc_8 hc_6
    refine lv_dup hx hb dX33_parts_26 rfl ?_
    refine mm_callI (As := []) (rest := [.ref q_3]) ⟨hx, hb, hml, hown, hts⟩ hE hST hA (c_J2_init l Z (M := M_9) (h0 := q_3) hc_6) (cwI (maxL := 1) 0 hts (lw_meth q133) rfl rfl rfl (hts _ q53) (hts _ q1899) (hts _ q132) rfl (by decide +kernel) ⟨(Nat.le_of_ble_eq_true rfl), (Nat.le_of_ble_eq_true rfl)⟩) hM hS rfl hl.1 (Nat.le_of_ble_eq_true rfl) dX33_parts_27 rfl ⟨(Nat.le_of_ble_eq_true rfl), (Nat.le_of_ble_eq_true rfl)⟩ (fun _ _ _ _ _ _ h9 => h9.elim) (fun v_10 M_11 H locs hp_12 hM hS => ?_)
    obtain ⟨rfl, eM_11⟩ := hp_12
    rw [eM_11] at hM
    replace hM : mm_P Z.1 mm_cl A (mm_U M_9 q_3 (.inr (41, [.int 0, .ref (Z.2.2.1 2), .int 0]))) H := hM
    have hc_13 : (mm_U M_9 q_3 (.inr (41, [.int 0, .ref (Z.2.2.1 2), .int 0]))) q_3 = some (.inr (41, [.int 0, .ref (Z.2.2.1 2), .int 0])) := mm_U_eq
    have hc_14 : (mm_U M_9 q_3 (.inr (41, [.int 0, .ref (Z.2.2.1 2), .int 0]))) a = some (.inr (27, [.int n])) := (mm_U_ne ne_4).trans hc_7
    have hc_15 : (mm_U M_9 q_3 (.inr (41, [.int 0, .ref (Z.2.2.1 2), .int 0]))) b = some (.inr (27, [.int k])) := (mm_U_ne ne_5).trans hc_8
    obtain ⟨M_16, eM_16⟩ : ∃ z, z = mm_U M_9 q_3 (.inr (41, [.int 0, .ref (Z.2.2.1 2), .int 0])) := ⟨_, rfl⟩
    rw [← eM_16] at hM hc_14 hc_15 hc_13
    refine lv_goto (tgt := 34) hx hb dX33_parts_30 (by decide) ?_
    exact mm_reta hx hb hr (Or.inl ⟨_, rfl⟩) (Or.inr ⟨_, rfl⟩) hlk hM hS (Or.inl ⟨c_1, q_3, nq_2, rfl, by subst eM_16 eM_9; simp only [mm_U_U]; rfl⟩) dX33_parts_34 (Nat.le_of_ble_eq_true rfl) (Nat.le_of_ble_eq_true rfl)
