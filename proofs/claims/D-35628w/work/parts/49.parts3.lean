/-! ===== a record's parts ===== -/
set_option maxRecDepth 100000
/-- what two records have at the same labels below i -/
def rp (f g : Nat → Option Nat) (i : Nat) : List (Option Nat) := (List.range i).flatMap fun j => match f j with | none => [] | some y => [some y, g j]
theorem rp_succ (f g : Nat → Option Nat) (i : Nat) : rp f g (i + 1) = rp f g i ++ (match f i with | none => [] | some y => [some y, g i]) := by
  simp [rp, List.range_succ, List.flatMap_append]
theorem rp_len (f g : Nat → Option Nat) (i : Nat) : (rp f g i).length ≤ 2 * i := by
  induction i with
  | zero => simp [rp]
  | succ i ih => rw [rp_succ, List.length_append]; cases f i <;> simp <;> omega
theorem rp_ok {M : mm_M} {f g : Nat → Option Nat} {i : Nat} (hf : ∀ j y : Nat, j < i → f j = some y → mm_isV M y) (hg : ∀ j y : Nat, j < i → g j = some y → mm_isV M y) : ∀ y ∈ rp f g i, mm_ok M y := by
  intro y hy
  simp only [rp, List.mem_flatMap, List.mem_range] at hy
  obtain ⟨j, hj, h⟩ := hy
  cases hf9 : f j with
  | none => rw [hf9] at h; simp at h
  | some z =>
    rw [hf9] at h
    simp only [List.mem_cons, List.not_mem_nil, or_false] at h
    rcases h with rfl | rfl
    · exact (hf j z hj hf9).ok
    · intro v hv
      exact (hg j v hj hv).ok v rfl

set_option maxHeartbeats 4000000 in
set_option maxRecDepth 100000 in
theorem c_X36_parts (l : Launch) (Z : mm_G) {M : mm_M} (hz9 : al_0 Z M) {a b qa qb : Nat} {f g : Nat → Option Nat} (ha9 : M a = some (.inr (30, [.ref qa]))) (hb9 : M b = some (.inr (30, [.ref qb]))) (hqa : M qa = some (cv_A Z f)) (hqb : M qb = some (cv_A Z g)) (hf : ∀ j y : Nat, j < 10 → f j = some y → mm_isV M y) (hg : ∀ j y : Nat, j < 10 → g j = some y → mm_isV M y) : mm_C l Z yX36_parts (ws_ yX36_parts cX36_parts 5 (some (.object "java/util/ArrayList"))) { frames := 8, cells := 4, slots := 50, locals := 340 } [.ref a, .ref b] M (fun v M' => ∃ q ar cap : Nat, v = some (.ref q) ∧ AN Z M M' q ar cap (rp f g 10)) mm_nx := by
  refine mm_ofW (cc := cX36_parts) (maxL := 5) (ret := (some (.object "java/util/ArrayList"))) (by decide) rfl (Nat.le_of_ble_eq_true rfl) ?_
  intro p e s m below meth c A ls hx hb hr hlk hml hown hmn hts htab hE hST hA hM hS hl
  replace hl : lv_has ls 5 [(0, .ref a), (1, .ref b)] := hl
  refine mm_new (D := Z.1) (ci := 41) (fs := mm_f0J2) (C := RJ2) (T := TJ2) (N := 3) hx hb hts in_J2 tyJ2 tyJ2_ok hown (hts _ q1903) (hts _ q130) (hts _ q53) hE.1 hM hS hA mm_cJ2 mm_dfJ2 (Nat.le_of_ble_eq_true rfl) (Nat.le_of_ble_eq_true rfl) dX36_parts_0 (fun q_2 H nq_1 hM hS => ?_)
  have hM : mm_P Z.1 mm_cl A (mm_U M q_2 (.inr (41, [.int 0, .null, .int 0]))) H := hM
  have ne_3 : a ≠ q_2 := (mm_neN ha9 nq_1)
  have ne_4 : b ≠ q_2 := (mm_neN hb9 nq_1)
  have hc_5 : (mm_U M q_2 (.inr (41, [.int 0, .null, .int 0]))) q_2 = some (.inr (41, [.int 0, .null, .int 0])) := mm_U_eq
  have hc_6 : (mm_U M q_2 (.inr (41, [.int 0, .null, .int 0]))) a = some (.inr (30, [.ref qa])) := (mm_U_ne ne_3).trans ha9
  have hc_7 : (mm_U M q_2 (.inr (41, [.int 0, .null, .int 0]))) b = some (.inr (30, [.ref qb])) := (mm_U_ne ne_4).trans hb9
  obtain ⟨M_8, eM_8⟩ : ∃ z, z = mm_U M q_2 (.inr (41, [.int 0, .null, .int 0])) := ⟨_, rfl⟩
  rw [← eM_8] at hM hc_6 hc_7 hc_5
  refine lv_dup hx hb dX36_parts_3 rfl ?_
  refine mm_callI (As := []) (rest := [.ref q_2]) ⟨hx, hb, hml, hown, hts⟩ hE hST hA (c_J2_init l Z (M := M_8) (h0 := q_2) hc_5) (cwI (maxL := 1) 0 hts (lw_meth q133) rfl rfl rfl (hts _ q53) (hts _ q1904) (hts _ q132) rfl (by decide +kernel) ⟨(Nat.le_of_ble_eq_true rfl), (Nat.le_of_ble_eq_true rfl)⟩) hM hS rfl hl.1 (Nat.le_of_ble_eq_true rfl) dX36_parts_4 rfl ⟨(Nat.le_of_ble_eq_true rfl), (Nat.le_of_ble_eq_true rfl)⟩ (fun _ _ _ _ _ _ h9 => h9.elim) (fun v_9 M_10 H locs hp_11 hM hS => ?_)
  obtain ⟨rfl, eM_10⟩ := hp_11
  rw [eM_10] at hM
  replace hM : mm_P Z.1 mm_cl A (mm_U M_8 q_2 (.inr (41, [.int 0, .ref (Z.2.2.1 2), .int 0]))) H := hM
  have hc_12 : (mm_U M_8 q_2 (.inr (41, [.int 0, .ref (Z.2.2.1 2), .int 0]))) q_2 = some (.inr (41, [.int 0, .ref (Z.2.2.1 2), .int 0])) := mm_U_eq
  have hc_13 : (mm_U M_8 q_2 (.inr (41, [.int 0, .ref (Z.2.2.1 2), .int 0]))) a = some (.inr (30, [.ref qa])) := (mm_U_ne ne_3).trans hc_6
  have hc_14 : (mm_U M_8 q_2 (.inr (41, [.int 0, .ref (Z.2.2.1 2), .int 0]))) b = some (.inr (30, [.ref qb])) := (mm_U_ne ne_4).trans hc_7
  obtain ⟨M_15, eM_15⟩ : ∃ z, z = mm_U M_8 q_2 (.inr (41, [.int 0, .ref (Z.2.2.1 2), .int 0])) := ⟨_, rfl⟩
  rw [← eM_15] at hM hc_13 hc_14 hc_12
  have hex0 : mm_Ext M M_15 := by subst eM_15 eM_8; rw [mm_U_U]; exact mm_Ext.U nq_1
  obtain ⟨zf9, hzf9⟩ := hz9
  have hN : AN Z M M_15 q_2 (Z.2.2.1 2) 0 [] := ⟨AL.of (md := 0) (f := zf9) hc_12 (hex0.at hzf9) (Nat.le_refl _) (by decide) (fun _ => rfl) (fun i h9 => absurd h9 (Nat.not_lt_zero i)), nq_1, Or.inl rfl, Or.inl rfl, hex0⟩
  refine lv_astore_n hx hb dX36_parts_7 rfl hl (by decide) rfl (fun ls hl => ?_)
  replace hl : lv_has ls 5 [(2, .ref q_2), (0, .ref a), (1, .ref b)] := hl
  refine lv_iconst (v := 0) hx hb dX36_parts_8 (by decide) ?_
  refine lv_istore_n hx hb dX36_parts_9 rfl hl (by decide) rfl (fun ls hl => ?_)
  replace hl : lv_has ls 5 [(3, .int 0), (2, .ref q_2), (0, .ref a), (1, .ref b)] := hl
  replace hl : lv_has ls 5 [(3, .int (nI 0)), (2, .ref q_2), (0, .ref a), (1, .ref b)] := hl
  refine mm_loopW (fun k M' ls cells slots => ∃ i ar cap : Nat, k = 10 - i ∧ i ≤ 10 ∧ lv_has ls 5 [(3, .int (nI i)), (2, .ref q_2), (0, .ref a), (1, .ref b)] ∧ AN Z M M' q_2 ar cap (rp f g i) ∧ cells ≤ 1 + lc_c cap ∧ slots ≤ 3 + lc_s cap) (fun k M1 ls H locs cells slots ih hI hM hS => ?_) (k := 10) ⟨0, _, _, rfl, Nat.zero_le _, hl, hN, Nat.le_of_ble_eq_true rfl, Nat.le_of_ble_eq_true rfl⟩ hM hS
  clear hN hex0
  obtain ⟨i, ar, cap, rfl, hi, hl, hN, hc1, hc2⟩ := hI
  have hlen := rp_len f g i
  have hc_16 := hN.2.2.2.2.at ha9
  have hc_17 := hN.2.2.2.2.at hb9
  have hc_18 := hN.2.2.2.2.at hqa
  have hc_19 := hN.2.2.2.2.at hqb
  obtain ⟨mdhq_20, fqhq_20, hq_20, -⟩ := hN.1
  refine lv_iload_n hx hb dX36_parts_10 rfl (lv_at hl 0 rfl) ?_
  refine lv_bipush (v := 10) hx hb dX36_parts_11 (by decide) ?_
  refine lv_icmp_ge (tgt := 67) hx hb dX36_parts_13 (by decide) (fun c_21 => ?_) (fun c_21 => ?_)
  · skip
    obtain rfl : i = 10 := by have := (nI_leI (a := 10) (by omega) (by omega)).1 c_21; omega
    have hlb := lc_b cap
    refine lv_aload_n hx hb dX36_parts_67 rfl (lv_at hl 1 rfl) ?_
    exact mm_reta hx hb hr (Or.inl ⟨_, rfl⟩) (Or.inr ⟨_, rfl⟩) hlk hM hS ⟨_, _, _, rfl, hN⟩ dX36_parts_68 (by dsimp only; omega) (by dsimp only; omega)
  · skip
    have hi10 : i < 10 := by have := (nI_ltI (b := 10) (by omega) (by omega)).1 (Int32.not_le.1 c_21); omega
    refine lv_aload_n hx hb dX36_parts_16 rfl (lv_at hl 2 rfl) ?_
    refine va_get (D := Z.1) (ci := 30) (v := .ref qa) (C := RX36) (T := TX36) (N := 1) hx hb hts in_X36 hown hE.1 (hM.at hc_16) 0 rfl mm_cX36 0 (by decide) (hts _ q1928) (fun _ h9 => h9) rfl dX36_parts_17 ?_
    refine lv_iload_n hx hb dX36_parts_20 rfl (lv_at hl 0 rfl) ?_
    refine mm_aald (k := i) hx hb hE hM 6 hc_18 rfl rfl hi10 (by decide) dX36_parts_21 ?_
    rcases hfi : f i with _ | y
    · skip
      refine lv_ifnullN (tgt := 61) hx hb dX36_parts_22 (by decide) ?_
      obtain ⟨x_22, ex_22⟩ : ∃ z : Int32, z = (nI i) + 1 := ⟨_, rfl⟩
      refine lv_iinc (v := x_22) (lv' := [(3, .int x_22), (2, .ref q_2), (0, .ref a), (1, .ref b)]) hx hb dX36_parts_61 hl (k := 0) rfl (by rw [ex_22]; rfl) (by decide) rfl (fun ls hl => ?_)
      rw [show x_22 = nI (i + 1) from by rw [ex_22]; exact nI_1 _] at hl
      refine lv_goto (tgt := 10) hx hb dX36_parts_64 (by decide) ?_
      refine ih (10 - (i + 1)) (by omega) _ _ _ _ _ _ ⟨i + 1, _, _, rfl, by omega, lv_sub hl [0, 1, 2, 3] rfl, by rw [rp_succ, hfi]; rw [List.append_nil]; exact hN, ?_, ?_⟩ hM hS
      · (try dsimp only); omega
      · (try dsimp only); omega
    · skip
      refine lv_ifnull hx hb dX36_parts_22 ?_
      refine lv_aload_n hx hb dX36_parts_25 rfl (lv_at hl 3 rfl) ?_
      refine va_instS hx hb hown (hts _ q1905) (hE.1.1 30 _ mm_cX36).2 (mm_recv hE hM mm_cX36 hc_17) dX36_parts_26 ?_
      refine lv_if_eq (tgt := 61) hx hb dX36_parts_29 (by decide) (fun h9 => absurd h9 (by decide)) (fun _ => ?_)
      refine lv_aload_n hx hb dX36_parts_32 rfl (lv_at hl 3 rfl) ?_
      refine va_castS hx hb hown (hts _ q1905) (hE.1.1 30 _ mm_cX36).2 (mm_recv hE hM mm_cX36 hc_17) dX36_parts_33 ?_
      refine lv_astore hx hb dX36_parts_36 hl (by decide) rfl (fun ls hl => ?_)
      replace hl : lv_has ls 5 [(4, .ref b), (3, .int (nI i)), (2, .ref q_2), (0, .ref a), (1, .ref b)] := hl
      refine lv_aload_n hx hb dX36_parts_38 rfl (lv_at hl 2 rfl) ?_
      refine lv_aload_n hx hb dX36_parts_39 rfl (lv_at hl 3 rfl) ?_
      refine va_get (D := Z.1) (ci := 30) (v := .ref qa) (C := RX36) (T := TX36) (N := 1) hx hb hts in_X36 hown hE.1 (hM.at hc_16) 0 rfl mm_cX36 0 (by decide) (hts _ q1928) (fun _ h9 => h9) rfl dX36_parts_40 ?_
      refine lv_iload_n hx hb dX36_parts_43 rfl (lv_at hl 1 rfl) ?_
      refine mm_aald (k := i) hx hb hE hM 6 hc_18 rfl rfl hi10 (by decide) dX36_parts_44 ?_
      rw [hfi]
      have hstk_22 := lc_step hN.2.2.2.1 hN.len (show ((rp f g i) : List (Option Nat)).length < 20 from (by omega))
      have hlbk_22 := lc_b (al_cap ((rp f g i) : List (Option Nat)).length cap)
      have hcpk_22 : cap < 2 ^ 18 := by rcases hN.2.2.2.1 with h9 | h9 | h9 | h9 <;> omega
      have hokk_22 : ∀ z8 ∈ ((rp f g i) : List (Option Nat)), mm_ok M1 z8 := rp_ok (fun j y hj h9 => (hf j y (by omega) h9).ext hN.2.2.2.2) (fun j y hj h9 => (hg j y (by omega) h9).ext hN.2.2.2.2)
      refine mm_callV (As := [.ref y]) (rest := []) ⟨hx, hb, hml, hown, hts⟩ hE hST hA (c_J2_add l Z hN.1 hcpk_22 hokk_22 (((hf i y hi10 hfi).ext hN.2.2.2.2).ok)) (cwV 1 hts (lw_V q1906 q335 q336 q53 q337) rfl rfl rfl (by decide +kernel) ⟨(Nat.le_of_ble_eq_true rfl), (Nat.le_of_ble_eq_true rfl)⟩) hM hS mm_cJ2 hq_20 rfl hl.1 (Nat.le_of_ble_eq_true rfl) dX36_parts_45 rfl ⟨(by dsimp only; omega), (by dsimp only; omega)⟩ (fun _ _ _ _ _ _ h9 => h9.elim) (fun v_23 M_24 H locs hp_25 hM hS => ?_)
      obtain ⟨rfl, ar_26, hA9ar_26, hk9ar_26, ho9ar_26⟩ := hp_25
      replace hN := hN.add (by omega) hA9ar_26 hk9ar_26 ho9ar_26
      have hc_27 := hN.2.2.2.2.at ha9
      have hc_28 := hN.2.2.2.2.at hb9
      have hc_29 := hN.2.2.2.2.at hqa
      have hc_30 := hN.2.2.2.2.at hqb
      obtain ⟨mdhq_31, fqhq_31, hq_31, -⟩ := hN.1
      refine lv_pop hx hb dX36_parts_48 rfl ?_
      refine lv_aload_n hx hb dX36_parts_49 rfl (lv_at hl 2 rfl) ?_
      refine lv_aload hx hb dX36_parts_50 (lv_at hl 0 rfl) ?_
      refine va_get (D := Z.1) (ci := 30) (v := .ref qb) (C := RX36) (T := TX36) (N := 1) hx hb hts in_X36 hown hE.1 (hM.at hc_28) 0 rfl mm_cX36 0 (by decide) (hts _ q1928) (fun _ h9 => h9) rfl dX36_parts_52 ?_
      refine lv_iload_n hx hb dX36_parts_55 rfl (lv_at hl 1 rfl) ?_
      refine mm_aald (k := i) hx hb hE hM 6 hc_30 rfl rfl hi10 (by decide) dX36_parts_56 ?_
      have hstk_32 := lc_step hN.2.2.2.1 hN.len (show ((rp f g i ++ [some y]) : List (Option Nat)).length < 20 from (by rw [List.length_append]; simp; omega))
      have hlbk_32 := lc_b (al_cap ((rp f g i ++ [some y]) : List (Option Nat)).length (al_cap (rp f g i).length cap))
      have hcpk_32 : (al_cap (rp f g i).length cap) < 2 ^ 18 := by rcases hN.2.2.2.1 with h9 | h9 | h9 | h9 <;> omega
      have hokk_32 : ∀ z8 ∈ ((rp f g i ++ [some y]) : List (Option Nat)), mm_ok M_24 z8 := (by intro z hz; rcases List.mem_append.1 hz with h9 | h9; exact (rp_ok (fun j y hj h9 => (hf j y (by omega) h9).ext hN.2.2.2.2) (fun j y hj h9 => (hg j y (by omega) h9).ext hN.2.2.2.2)) z h9; simp only [List.mem_cons, List.not_mem_nil, or_false] at h9; subst h9; exact ((hf i y hi10 hfi).ext hN.2.2.2.2).ok)
      refine mm_callV (As := [va_rf (g i)]) (rest := []) ⟨hx, hb, hml, hown, hts⟩ hE hST hA (c_J2_add l Z hN.1 hcpk_32 hokk_32 ((fun v hv => ((hg i v hi10 hv).ext hN.2.2.2.2).ok v rfl))) (cwV 1 hts (lw_V q1906 q335 q336 q53 q337) rfl rfl rfl (by decide +kernel) ⟨(Nat.le_of_ble_eq_true rfl), (Nat.le_of_ble_eq_true rfl)⟩) hM hS mm_cJ2 hq_31 rfl hl.1 (Nat.le_of_ble_eq_true rfl) dX36_parts_57 rfl ⟨(by dsimp only; omega), (by dsimp only; omega)⟩ (fun _ _ _ _ _ _ h9 => h9.elim) (fun v_33 M_34 H locs hp_35 hM hS => ?_)
      obtain ⟨rfl, ar_36, hA9ar_36, hk9ar_36, ho9ar_36⟩ := hp_35
      replace hN := hN.add (by rw [List.length_append]; simp; omega) hA9ar_36 hk9ar_36 ho9ar_36
      have hc_37 := hN.2.2.2.2.at ha9
      have hc_38 := hN.2.2.2.2.at hb9
      have hc_39 := hN.2.2.2.2.at hqa
      have hc_40 := hN.2.2.2.2.at hqb
      obtain ⟨mdhq_41, fqhq_41, hq_41, -⟩ := hN.1
      refine lv_pop hx hb dX36_parts_60 rfl ?_
      obtain ⟨x_42, ex_42⟩ : ∃ z : Int32, z = (nI i) + 1 := ⟨_, rfl⟩
      refine lv_iinc (v := x_42) (lv' := [(3, .int x_42), (4, .ref b), (2, .ref q_2), (0, .ref a), (1, .ref b)]) hx hb dX36_parts_61 hl (k := 1) rfl (by rw [ex_42]; rfl) (by decide) rfl (fun ls hl => ?_)
      rw [show x_42 = nI (i + 1) from by rw [ex_42]; exact nI_1 _] at hl
      refine lv_goto (tgt := 10) hx hb dX36_parts_64 (by decide) ?_
      refine ih (10 - (i + 1)) (by omega) _ _ _ _ _ _ ⟨i + 1, _, _, rfl, by omega, lv_sub hl [0, 2, 3, 4] rfl, by rw [rp_succ, hfi]; rw [List.append_assoc] at hN; exact hN, ?_, ?_⟩ hM hS
      · (try dsimp only); omega
      · (try dsimp only); omega
