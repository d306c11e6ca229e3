/-! ===== the component's terms: termOf, partOf, add, terms ===== -/
set_option maxRecDepth 100000
theorem ct_T.ext {Z : mm_G} {M M' : mm_M} {ad : List Nat} {F : Nat → Option Nat} {T : List pt_R} (h : ct_T Z M ad F T) (he : ∀ q : Nat, (∃ k r q' f, M q = some (ct_E k r q' f)) ∨ (∃ n g, M q = some (ct_A Z n g)) → M' q = M q) : ct_T Z M' ad F T := by
  obtain ⟨h1, h2⟩ := h
  refine ⟨h1, fun k r hk => ?_⟩
  obtain ⟨h0, a, q, g, h3, h4, h5, h6⟩ := h2 k r hk
  exact ⟨h0, a, q, g, h3, by rw [he a (Or.inl ⟨_, _, _, _, h4⟩)]; exact h4, by rw [he q (Or.inr ⟨_, _, h5⟩)]; exact h5, h6⟩
theorem ct_T.at {Z : mm_G} {M : mm_M} {ad : List Nat} {F : Nat → Option Nat} {T : List pt_R} (h : ct_T Z M ad F T) {k : Nat} (hk : k < T.length) : ∃ (a q : Nat) (g : Nat → Option Nat), ad[k]? = some a ∧ M a = some (ct_E k T[k] q (F k)) ∧ M q = some (ct_A Z T[k].2.2.2.1.length g) := by
  obtain ⟨-, a, q, g, h3, h4, h5, -⟩ := h.2 k T[k] (List.getElem?_eq_getElem hk)
  exact ⟨a, q, g, h3, h4, h5⟩
theorem ct_len {Z : mm_G} {M : mm_M} {ad : List Nat} {F : Nat → Option Nat} {T : List pt_R} (h : ct_T Z M ad F T) : (ad.map some).length = T.length := by rw [List.length_map]; exact h.1.1
theorem mm_nI_of {i : Int32} {n : Nat} (h0 : 0 ≤ i) (h : i < nI n) (hn : n < 2 ^ 31) : ∃ k : Nat, k < n ∧ i = nI k := by
  refine ⟨i.toInt.toNat, ?_, ?_⟩
  · have h1 := Int32.lt_iff_toInt_lt.1 h
    have h2 := Int32.le_iff_toInt_le.1 h0
    rw [nI_toInt hn] at h1
    have h3 : (0 : Int32).toInt = 0 := by decide
    omega
  · have h1 := Int32.lt_iff_toInt_lt.1 h
    have h2 := Int32.le_iff_toInt_le.1 h0
    rw [nI_toInt hn] at h1
    have h3 : (0 : Int32).toInt = 0 := by decide
    apply Int32.toInt_inj.1
    rw [nI_toInt (by omega)]
    omega

set_option maxHeartbeats 4000000 in
set_option maxRecDepth 100000 in
theorem c_X1_terms (l : Launch) (Z : mm_G) {M : mm_M} {o tl ar cap : Nat} {er st : Int32} {rs : Option Nat} {ad : List Nat} {F : Nat → Option Nat} {T : List pt_R} (hC9 : co_T Z M o er st rs tl ar cap ad F T) : mm_C l Z yX1_terms (ws_ yX1_terms cX1_terms 1 (some .int)) { frames := 1, cells := 0, slots := 0, locals := 40 } [.ref o] M (fun v M' => v = some (.int (nI T.length)) ∧ M' = M) mm_nx := by
  refine mm_ofW (cc := cX1_terms) (maxL := 1) (ret := (some .int)) (by decide) rfl (Nat.le_of_ble_eq_true rfl) ?_
  intro p e s m below meth c A ls hx hb hr hlk hml hown hmn hts htab hE hST hA hM hS hl
  replace hl : lv_has ls 1 [(0, .ref o)] := hl
  have hC8 := hC9
  obtain ⟨ho9, hA9, hcap9, hT9⟩ := hC9
  have hlen9 := ct_len hT9
  have hA8 := hA9
  obtain ⟨md, f, ha, har, hl1, hcap, h0, hf⟩ := hA9
  rw [hlen9] at ha hl1
  refine lv_aload_n hx hb dX1_terms_0 rfl (lv_at hl 0 rfl) ?_
  refine va_get (D := Z.1) (ci := 0) (v := .ref tl) (C := RX1) (T := TX1) (N := 4) hx hb hts in_X1 hown hE.1 (hM.at ho9) 0 rfl mm_cX1 0 (by decide) (hts _ q159) (fun _ h9 => h9) rfl dX1_terms_1 ?_
  refine mm_callV (As := []) (rest := []) ⟨hx, hb, hml, hown, hts⟩ hE hST hA (c_J2_size l Z (M := M) (h0 := tl) (f0 := md) (f1 := (some ar)) (f2 := (nI T.length)) ha) (cwV 0 hts (lw_V q177 q178 q179 q53 q180) rfl rfl rfl (by decide +kernel) ⟨(Nat.le_of_ble_eq_true rfl), (Nat.le_of_ble_eq_true rfl)⟩) hM hS mm_cJ2 ha rfl hl.1 (Nat.le_of_ble_eq_true rfl) dX1_terms_4 rfl ⟨(Nat.le_of_ble_eq_true rfl), (Nat.le_of_ble_eq_true rfl)⟩ (fun _ _ _ _ _ _ h9 => h9.elim) (fun v_1 M_2 H locs hp_3 hM hS => ?_)
  obtain ⟨rfl, eM_2⟩ := hp_3
  rw [eM_2] at hM
  exact mm_reti hx hb hr hlk hM hS ⟨rfl, rfl⟩ dX1_terms_7 (Nat.le_of_ble_eq_true rfl) (Nat.le_of_ble_eq_true rfl)
set_option maxHeartbeats 4000000 in
set_option maxRecDepth 100000 in
theorem c_X1_termOf (l : Launch) (Z : mm_G) {M : mm_M} (htr : l.stackTraces = false) {o tl ar cap : Nat} {er st : Int32} {rs : Option Nat} {ad : List Nat} {F : Nat → Option Nat} {T : List pt_R} (hC9 : co_T Z M o er st rs tl ar cap ad F T) {i : Int32} : mm_C l Z yX1_termOf (ws_ yX1_termOf cX1_termOf 2 (some (.object "RowenTongue$Term"))) { frames := 9, cells := 1, slots := 6, locals := 160 } [.ref o, .int i] M (fun v M' => (∃ (k a : Nat), k < T.length ∧ i = nI k ∧ ad[k]? = some a ∧ v = some (.ref a)) ∧ M' = M) (fun E _ M' => ¬ (0 ≤ i ∧ i < nI T.length) ∧ E = "java/lang/IndexOutOfBoundsException" ∧ M' = M) := by
  refine mm_ofW (cc := cX1_termOf) (maxL := 2) (ret := (some (.object "RowenTongue$Term"))) (by decide) rfl (Nat.le_of_ble_eq_true rfl) ?_
  intro p e s m below meth c A ls hx hb hr hlk hml hown hmn hts htab hE hST hA hM hS hl
  replace hl : lv_has ls 2 [(0, .ref o), (1, .int i)] := hl
  have hC8 := hC9
  obtain ⟨ho9, hA9, hcap9, hT9⟩ := hC9
  have hlen9 := ct_len hT9
  have hA8 := hA9
  obtain ⟨md, f, ha, har, hl1, hcap, h0, hf⟩ := hA9
  rw [hlen9] at ha hl1
  refine mm_cutW (v0 := mm_b (decide (0 ≤ i ∧ i < nI T.length))) (pc2 := 20) (ls := ls) (rest := []) (M := M) (fun kk => ?_) (fun H locs hM hS => ?_) hM hS
  · skip
    refine lv_iload_n hx hb dX1_termOf_0 rfl (lv_at hl 1 rfl) ?_
    refine lv_if_lt (tgt := 19) hx hb dX1_termOf_1 (by decide) (fun c_1 => ?_) (fun c_1 => ?_)
    · skip
      refine lv_iconst (v := 0) hx hb dX1_termOf_19 (by decide) ?_
      exact kk _ _ _ hM hS (show (mm_b (decide (0 ≤ i ∧ i < nI T.length)) : Int32) = 0 from by (simp [mm_b, Int32.le_iff_toInt_le, Int32.lt_iff_toInt_lt] at c_1 ⊢ <;> omega)).symm
    · skip
      refine lv_iload_n hx hb dX1_termOf_4 rfl (lv_at hl 1 rfl) ?_
      refine lv_aload_n hx hb dX1_termOf_5 rfl (lv_at hl 0 rfl) ?_
      refine va_get (D := Z.1) (ci := 0) (v := .ref tl) (C := RX1) (T := TX1) (N := 4) hx hb hts in_X1 hown hE.1 (hM.at ho9) 0 rfl mm_cX1 0 (by decide) (hts _ q159) (fun _ h9 => h9) rfl dX1_termOf_6 ?_
      refine mm_callV (As := []) (rest := [.int i]) ⟨hx, hb, hml, hown, hts⟩ hE hST hA (c_J2_size l Z (M := M) (h0 := tl) (f0 := md) (f1 := (some ar)) (f2 := (nI T.length)) ha) (cwV 0 hts (lw_V q177 q178 q179 q53 q180) rfl rfl rfl (by decide +kernel) ⟨(Nat.le_of_ble_eq_true rfl), (Nat.le_of_ble_eq_true rfl)⟩) hM hS mm_cJ2 ha rfl hl.1 (Nat.le_of_ble_eq_true rfl) dX1_termOf_9 rfl ⟨(Nat.le_of_ble_eq_true rfl), (Nat.le_of_ble_eq_true rfl)⟩ (fun _ _ _ _ _ _ h9 => h9.elim) (fun v_2 M_3 H locs hp_4 hM hS => ?_)
      obtain ⟨rfl, eM_3⟩ := hp_4
      rw [eM_3] at hM
      refine lv_icmp_ge (tgt := 19) hx hb dX1_termOf_12 (by decide) (fun c_5 => ?_) (fun c_5 => ?_)
      · skip
        refine lv_iconst (v := 0) hx hb dX1_termOf_19 (by decide) ?_
        exact kk _ _ _ hM hS (show (mm_b (decide (0 ≤ i ∧ i < nI T.length)) : Int32) = 0 from by (simp [mm_b, Int32.le_iff_toInt_le, Int32.lt_iff_toInt_lt] at c_1 c_5 ⊢ <;> omega)).symm
      · skip
        refine lv_iconst (v := 1) hx hb dX1_termOf_15 (by decide) ?_
        refine lv_goto (tgt := 20) hx hb dX1_termOf_16 (by decide) ?_
        exact kk _ _ _ hM hS (show (mm_b (decide (0 ≤ i ∧ i < nI T.length)) : Int32) = 1 from by (simp [mm_b, Int32.le_iff_toInt_le, Int32.lt_iff_toInt_lt] at c_1 c_5 ⊢ <;> omega)).symm
  refine mm_callS (As := [.int (mm_b (decide (0 ≤ i ∧ i < nI T.length)))]) (rest := []) ⟨hx, hb, hml, hown, hts⟩ hE hST hA (c_X1_there l Z htr) (va_cwS 1 hts (lw_S q481 q482 q50 q483) rfl rfl rfl (by decide +kernel) ⟨(Nat.le_of_ble_eq_true rfl), (Nat.le_of_ble_eq_true rfl)⟩) hM hS rfl hl.1 (Nat.le_of_ble_eq_true rfl) dX1_termOf_20 rfl ⟨(Nat.le_of_ble_eq_true rfl), (Nat.le_of_ble_eq_true rfl)⟩ (fun E ce q M9 H1 locs1 hp9 hM9 hS9 hce hcv hcl => mm_outx htab hlk hM9 hS9 hce hcv hcl (⟨of_decide_eq_false hp9.1, hp9.2.1, hp9.2.2⟩) (Nat.le_of_ble_eq_true rfl) (Nat.le_of_ble_eq_true rfl)) (fun v_1 M_2 H locs hp_3 hM hS => ?_)
  obtain ⟨hhp_3, rfl, eM_2⟩ := hp_3
  rw [eM_2] at hM
  obtain ⟨k, hk, rfl⟩ := mm_nI_of (of_decide_eq_true hhp_3).1 (of_decide_eq_true hhp_3).2 (by omega)
  obtain ⟨a, q, g, hk1, hk2, -⟩ := hT9.at hk
  refine lv_aload_n hx hb dX1_termOf_23 rfl (lv_at hl 0 rfl) ?_
  refine va_get (D := Z.1) (ci := 0) (v := .ref tl) (C := RX1) (T := TX1) (N := 4) hx hb hts in_X1 hown hE.1 (hM.at ho9) 0 rfl mm_cX1 0 (by decide) (hts _ q159) (fun _ h9 => h9) rfl dX1_termOf_24 ?_
  refine lv_iload_n hx hb dX1_termOf_27 rfl (lv_at hl 1 rfl) ?_
  refine mm_callV (As := [.int (nI k)]) (rest := []) ⟨hx, hb, hml, hown, hts⟩ hE hST hA (c_J2_get l Z hA8 (by rw [hlen9]; exact hk)) (cwV 1 hts (lw_V q499 q500 q501 q53 q502) rfl rfl rfl (by decide +kernel) ⟨(Nat.le_of_ble_eq_true rfl), (Nat.le_of_ble_eq_true rfl)⟩) hM hS mm_cJ2 ha rfl hl.1 (Nat.le_of_ble_eq_true rfl) dX1_termOf_28 rfl ⟨(Nat.le_of_ble_eq_true rfl), (Nat.le_of_ble_eq_true rfl)⟩ (fun _ _ _ _ _ _ h9 => h9.elim) (fun v_4 M_5 H locs hp_6 hM hS => ?_)
  obtain ⟨⟨r9, hr9, rfl⟩, eM_5⟩ := hp_6
  rw [eM_5] at hM
  have h9 : (ad.map some)[k]? = some (some a) := by rw [List.getElem?_map, hk1]; rfl
  obtain rfl : r9 = some a := Option.some.inj (hr9.symm.trans h9)
  refine va_castS hx hb hown (hts _ q270) (hE.1.1 2 _ mm_cX3).2 (mm_recv hE hM mm_cX3 hk2) dX1_termOf_31 ?_
  exact mm_reta hx hb hr (Or.inl ⟨_, rfl⟩) (Or.inr ⟨_, rfl⟩) hlk hM hS ⟨⟨k, a, hk, rfl, hk1, rfl⟩, rfl⟩ dX1_termOf_34 (Nat.le_of_ble_eq_true rfl) (Nat.le_of_ble_eq_true rfl)
set_option maxHeartbeats 4000000 in
set_option maxRecDepth 100000 in
theorem c_X1_partOf (l : Launch) (Z : mm_G) {M : mm_M} (htr : l.stackTraces = false) {o tl ar cap : Nat} {er st : Int32} {rs : Option Nat} {ad : List Nat} {F : Nat → Option Nat} {T : List pt_R} (hC9 : co_T Z M o er st rs tl ar cap ad F T) {i : Int32} {b : Bool} : mm_C l Z yX1_partOf (ws_ yX1_partOf cX1_partOf 4 (some (.object "RowenTongue$Term"))) { frames := 10, cells := 2, slots := 12, locals := 200 } [.ref o, .int i, .int (mm_b b)] M (fun v M' => (∃ (k a : Nat) (hk : k < T.length), i = nI k ∧ decide (15 ≤ T[k].1) = b ∧ ad[k]? = some a ∧ v = some (.ref a)) ∧ M' = M) (fun E _ M' => (∀ (k : Nat) (hk : k < T.length), i = nI k → decide (15 ≤ T[k].1) ≠ b) ∧ E = "java/lang/IndexOutOfBoundsException" ∧ M' = M) := by
  refine mm_ofW (cc := cX1_partOf) (maxL := 4) (ret := (some (.object "RowenTongue$Term"))) (by decide) rfl (Nat.le_of_ble_eq_true rfl) ?_
  intro p e s m below meth c A ls hx hb hr hlk hml hown hmn hts htab hE hST hA hM hS hl
  replace hl : lv_has ls 4 [(0, .ref o), (1, .int i), (2, .int (mm_b b))] := hl
  have hC8 := hC9
  obtain ⟨ho9, hA9, hcap9, hT9⟩ := hC9
  have hlen9 := ct_len hT9
  have hA8 := hA9
  obtain ⟨md, f, ha, har, hl1, hcap, h0, hf⟩ := hA9
  rw [hlen9] at ha hl1
  refine lv_aload_n hx hb dX1_partOf_0 rfl (lv_at hl 0 rfl) ?_
  refine lv_iload_n hx hb dX1_partOf_1 rfl (lv_at hl 1 rfl) ?_
  refine mm_callV (As := [.int i]) (rest := []) ⟨hx, hb, hml, hown, hts⟩ hE hST hA (c_X1_termOf l Z htr hC8) (cwV 1 hts (lw_V q477 q479 qs6 q50 q480) rfl rfl rfl (by decide +kernel) ⟨(Nat.le_of_ble_eq_true rfl), (Nat.le_of_ble_eq_true rfl)⟩) hM hS mm_cX1 ho9 rfl hl.1 (Nat.le_of_ble_eq_true rfl) dX1_partOf_2 rfl ⟨(Nat.le_of_ble_eq_true rfl), (Nat.le_of_ble_eq_true rfl)⟩ (fun E ce q M9 H1 locs1 hp9 hM9 hS9 hce hcv hcl => mm_outx htab hlk hM9 hS9 hce hcv hcl (⟨fun k hk h9 => absurd (show 0 ≤ i ∧ i < nI T.length from h9 ▸ ⟨nI_pos' (by omega), nI_lt hk (by omega)⟩) hp9.1, hp9.2.1, hp9.2.2⟩) (Nat.le_of_ble_eq_true rfl) (Nat.le_of_ble_eq_true rfl)) (fun v_1 M_2 H locs hp_3 hM hS => ?_)
  obtain ⟨⟨k, a, hk, rfl, hk1, rfl⟩, eM_2⟩ := hp_3
  rw [eM_2] at hM
  obtain ⟨a', q, g, hk1', hk2, -⟩ := hT9.at hk
  obtain rfl : a' = a := Option.some.inj (hk1'.symm.trans hk1)
  refine lv_astore_n hx hb dX1_partOf_5 rfl hl (by decide) rfl (fun ls hl => ?_)
  replace hl : lv_has ls 4 [(3, .ref a'), (0, .ref o), (1, .int (nI k)), (2, .int (mm_b b))] := hl
  refine lv_aload_n hx hb dX1_partOf_6 rfl (lv_at hl 0 rfl) ?_
  refine mm_callV (As := []) (rest := []) ⟨hx, hb, hml, hown, hts⟩ hE hST hA (c_X3_isCases l Z hk2) (cwV 0 hts (lw_V q513 q514 q515 q59 q516) rfl rfl rfl (by decide +kernel) ⟨(Nat.le_of_ble_eq_true rfl), (Nat.le_of_ble_eq_true rfl)⟩) hM hS mm_cX3 hk2 rfl hl.1 (Nat.le_of_ble_eq_true rfl) dX1_partOf_7 rfl ⟨(Nat.le_of_ble_eq_true rfl), (Nat.le_of_ble_eq_true rfl)⟩ (fun _ _ _ _ _ _ h9 => h9.elim) (fun v_4 M_5 H locs hp_6 hM hS => ?_)
  obtain ⟨rfl, eM_5⟩ := hp_6
  rw [eM_5] at hM
  refine lv_iload_n hx hb dX1_partOf_10 rfl (lv_at hl 3 rfl) ?_
  obtain ⟨z9, ez9⟩ : ∃ z, z = decide (15 ≤ T[k].1) := ⟨_, rfl⟩
  rw [← ez9]
  refine mm_cutW (v0 := mm_b (z9 == b)) (pc2 := 19) (ls := ls) (rest := []) (M := M) (fun kk => ?_) (fun H locs hM hS => ?_) hM hS
  · skip
    refine lv_icmp_ne (tgt := 18) hx hb dX1_partOf_11 (by decide) (fun c_7 => ?_) (fun c_7 => ?_)
    · skip
      refine lv_iconst (v := 0) hx hb dX1_partOf_18 (by decide) ?_
      exact kk _ _ _ hM hS (show (mm_b (z9 == b) : Int32) = 0 from by (cases z9 <;> cases b <;> first | rfl | exact absurd rfl c_7 | exact absurd c_7 (by decide))).symm
    · skip
      refine lv_iconst (v := 1) hx hb dX1_partOf_14 (by decide) ?_
      refine lv_goto (tgt := 19) hx hb dX1_partOf_15 (by decide) ?_
      exact kk _ _ _ hM hS (show (mm_b (z9 == b) : Int32) = 1 from by (cases z9 <;> cases b <;> first | rfl | exact absurd rfl c_7 | exact absurd c_7 (by decide))).symm
  refine mm_callS (As := [.int (mm_b (z9 == b))]) (rest := []) ⟨hx, hb, hml, hown, hts⟩ hE hST hA (c_X1_there l Z htr) (va_cwS 1 hts (lw_S q481 q482 q50 q483) rfl rfl rfl (by decide +kernel) ⟨(Nat.le_of_ble_eq_true rfl), (Nat.le_of_ble_eq_true rfl)⟩) hM hS rfl hl.1 (Nat.le_of_ble_eq_true rfl) dX1_partOf_19 rfl ⟨(Nat.le_of_ble_eq_true rfl), (Nat.le_of_ble_eq_true rfl)⟩ (fun E ce q M9 H1 locs1 hp9 hM9 hS9 hce hcv hcl => mm_outx htab hlk hM9 hS9 hce hcv hcl (⟨fun k' hk' h9 h8 => (by have h7 : k' = k := ((nI_eq (by omega) (by omega)).1 h9).symm; subst h7; rw [← ez9] at h8; rw [h8] at hp9; simp at hp9), hp9.2.1, hp9.2.2⟩) (Nat.le_of_ble_eq_true rfl) (Nat.le_of_ble_eq_true rfl)) (fun v_7 M_8 H locs hp_9 hM hS => ?_)
  obtain ⟨hhp_9, rfl, eM_8⟩ := hp_9
  rw [eM_8] at hM
  refine lv_aload_n hx hb dX1_partOf_22 rfl (lv_at hl 0 rfl) ?_
  exact mm_reta hx hb hr (Or.inl ⟨_, rfl⟩) (Or.inr ⟨_, rfl⟩) hlk hM hS ⟨⟨k, a', hk, rfl, by rw [← ez9]; exact eq_of_beq hhp_9, hk1, rfl⟩, rfl⟩ dX1_partOf_23 (Nat.le_of_ble_eq_true rfl) (Nat.le_of_ble_eq_true rfl)
