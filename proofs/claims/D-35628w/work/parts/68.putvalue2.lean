/-! ===== the model's putValue: numbers; whole ===== -/
set_option maxRecDepth 100000
theorem pg_1 {s : List Nat × Nat} {x : Int32} (h : s.1.length < 300) : s.1.length + 1 ≤ (pz s (dgx x)).1.length := by
  have h1 := (dgx_b x).1
  match e : dgx x, h1 with
  | k :: ds, _ =>
    have h2 := (ps1_pl (s := s) (k := k) (by omega)).2
    have h3 := (ps1_b (s := s) (k := k)).2.2.2 h
    have h4 := (pz_pl ds (ps1 s k) h2).2.2.1
    have h5 : pz s (k :: ds) = pz (ps1 s k) ds := rfl
    rw [h5]; omega
theorem pz_take {s : List Nat × Nat} {ds : List Nat} {i : Nat} (h : i < ds.length) : pz s (ds.take (i + 1)) = ps1 (pz s (ds.take i)) (ds.getD i 0) := by
  rw [List.take_succ, List.getElem?_eq_getElem h, List.getD_eq_getElem?_getD, List.getElem?_eq_getElem h]
  exact pz_snoc
theorem pz_split {s : List Nat × Nat} {ds : List Nat} (i : Nat) : pz s ds = pz (pz s (ds.take i)) (ds.drop i) := by
  unfold pz
  rw [← List.foldl_append, List.take_append_drop]
theorem mm_Ext.two {M M1 M' : mm_M} {q q2 : Nat} (hx : mm_Ext M M1) (hq : M q = none) (hq2 : M1 q2 = none) (hk : ∀ q9 : Nat, q9 ≠ q → q9 ≠ q2 → M' q9 = M1 q9) : mm_Ext M M' := by
  intro a ha
  have h1 := hx a ha
  rw [hk a (fun h9 => ha (h9 ▸ hq)) (fun h9 => ha (by rw [← h1, h9]; exact hq2)), h1]
theorem mm_Ext.none {M M1 : mm_M} {q : Nat} (hx : mm_Ext M M1) (h : M1 q = none) : M q = none := Classical.byContradiction fun h9 => h9 (by rw [← hx q h9]; exact h)
theorem tb_mk0 {mn cap : Nat} (h : mn ≤ cap) : tb_mk mn cap = 0 ∧ tb_ms mn cap = 0 ∧ tb_cap mn cap = cap := by
  unfold tb_mk tb_ms tb_cap
  rw [if_pos h, if_pos h, if_pos h]; exact ⟨rfl, rfl, rfl⟩

set_option maxHeartbeats 4000000 in
set_option maxRecDepth 100000 in
theorem c_X2_putValue_n (l : Launch) (Z : mm_G) {M : mm_M} {ss : List Nat × Nat} {va b ar : Nat} (hl9 : ss.1.length ≤ 300) (hc9 : ss.2 ≤ 1500) (hT9 : TB Z M b ar ss.2 ss.1) (hx9 : tx_T Z M ar) {n : Nat} (hv9 : M va = some (mw_E 1 (nI n) none none none)) : mm_C l Z yX2_putValue (ws_ yX2_putValue cX2_putValue 4 none) { frames := 310 - ss.1.length + 10, cells := ((mp (.natCast n) false 0 true ss).2 - ss.2) + 4 * ((mp (.natCast n) false 0 true ss).1.length - ss.1.length), slots := (2 * (mp (.natCast n) false 0 true ss).2 - 2 * ss.2) + 40 * ((mp (.natCast n) false 0 true ss).1.length - ss.1.length), locals := 60 * (310 - ss.1.length) + 700 } [.ref va, .ref b] M ((fun v9 M' => v9 = none ∧ ∃ ar', BF Z M M' b ar ar' (mp (.natCast n) false 0 true ss))) mm_nx := by
  refine mm_ofW (cc := cX2_putValue) (maxL := 4) (ret := none) (by decide) rfl (Nat.le_of_ble_eq_true rfl) ?_
  intro p e s m below meth c A ls hx hb hr hlk hml hown hmn hts htab hE hST hA hM hS hl
  replace hl : lv_has ls 4 [(0, .ref va), (1, .ref b)] := hl
  have hb_1 := hT9.1
  simp only [mp]
  have hdl := dgx_b (nI n)
  have hdo := dgx_ok (nI n)
  obtain ⟨ds, hds⟩ : ∃ ds, dgx (nI n) = ds := ⟨_, rfl⟩
  refine lv_aload_n hx hb dX2_putValue_0 rfl (lv_at hl 1 rfl) ?_
  refine mm_callV (As := []) (rest := []) ⟨hx, hb, hml, hown, hts⟩ hE hST hA (c_J19_length l Z (M := M) (h0 := b) (f0 := (some ar)) (f1 := 0) (f2 := false) (f3 := (nI ss.1.length)) hb_1) (cwV 0 hts (lw_V q2742 q1483 q2860 q93 q1484) rfl rfl rfl (by decide +kernel) ⟨(by (try dsimp only); omega), (by (try dsimp only); omega)⟩) hM hS mm_cJ19 hb_1 rfl hl.1 (Nat.le_of_ble_eq_true rfl) dX2_putValue_1 rfl ⟨(by (try dsimp only); omega), (by (try dsimp only); omega)⟩ (fun _ _ _ _ _ _ h9 => h9.elim) (fun v_2 M_3 H locs hp_4 hM hS => ?_)
  obtain ⟨rfl, eM_3⟩ := hp_4
  rw [eM_3] at hM
  refine lv_sipush (v := 300) hx hb dX2_putValue_4 (by decide) ?_
  refine lv_icmp_lt (tgt := 11) hx hb dX2_putValue_7 (by decide) (fun c_5 => ?_) (fun c_5 => ?_)
  · skip
    have h3 : ss.1.length < 300 := (nI_ltI (a := ss.1.length) (b := 300) (by omega) (by omega)).1 c_5
    have h4 : ¬ 300 ≤ ss.1.length := by omega
    simp only [if_neg h4]
    have hg1 := pg_1 (x := nI n) h3
    rw [hds] at hg1 hdl hdo
    simp only [hds]
    obtain ⟨hgA, hgB, hgC, hgD⟩ := (pz_pl ds ss hl9).2
    have hgE := hgD hc9
    refine lv_aload_n hx hb dX2_putValue_11 rfl (lv_at hl 0 rfl) ?_
    refine va_get (D := Z.1) (ci := 32) (v := .int 1) (C := RX38) (T := TX38) (N := 5) hx hb hts in_X38 hown hE.1 (hM.at hv9) 0 rfl mm_cX38 0 (by decide) (hts _ q2782) (fun _ h9 => h9) rfl dX2_putValue_12 ?_
    refine lv_iconst (v := 1) hx hb dX2_putValue_15 (by decide) ?_
    refine lv_icmp_ne (tgt := 70) hx hb dX2_putValue_16 (by decide) (fun h9 => absurd (by decide) h9) (fun _ => ?_)
    refine mm_new (D := Z.1) (ci := 49) (fs := mm_f0J19) (C := RJ19) (T := TJ19) (N := 4) hx hb hts in_J19 tyJ19 tyJ19_ok hown (hts _ q2737) (hts _ q1302) (hts _ q93) hE.1 hM hS hA mm_cJ19 mm_dfJ19 (by (try dsimp only); omega) (by (try dsimp only); omega) dX2_putValue_19 (fun q_7 H nq_6 hM hS => ?_)
    have hM : mm_P Z.1 mm_cl A (mm_U M q_7 (.inr (49, [.null, .int 0, .int 0, .int 0]))) H := hM
    have ne_8 : va ≠ q_7 := (mm_neN hv9 nq_6)
    have hc_9 : (mm_U M q_7 (.inr (49, [.null, .int 0, .int 0, .int 0]))) q_7 = some (.inr (49, [.null, .int 0, .int 0, .int 0])) := mm_U_eq
    have hc_10 : (mm_U M q_7 (.inr (49, [.null, .int 0, .int 0, .int 0]))) va = some (.inr (32, [.int 1, .int (nI n), .null, .null, .null])) := (mm_U_ne ne_8).trans hv9
    obtain ⟨M_11, eM_11⟩ : ∃ z, z = mm_U M q_7 (.inr (49, [.null, .int 0, .int 0, .int 0])) := ⟨_, rfl⟩
    rw [← eM_11] at hM hc_10 hc_9
    refine lv_dup hx hb dX2_putValue_22 rfl ?_
    have hex1 : mm_Ext M M_11 := by rw [eM_11]; exact mm_Ext.U nq_6
    refine mm_callI (As := []) (rest := [.ref q_7]) ⟨hx, hb, hml, hown, hts⟩ hE hST hA (c_J19_init l Z hc_9) (cwI (maxL := 1) 0 hts (lw_meth q1305) rfl rfl rfl (hts _ q93) (hts _ q2738) (hts _ q1304) rfl (by decide +kernel) ⟨(by (try dsimp only); omega), (by (try dsimp only); omega)⟩) hM hS rfl hl.1 (Nat.le_of_ble_eq_true rfl) dX2_putValue_23 rfl ⟨(by (try dsimp only); omega), (by (try dsimp only); omega)⟩ (fun _ _ _ _ _ _ h9 => h9.elim) (fun v_12 M_13 H locs hp_14 hM hS => ?_)
    obtain ⟨rfl, q2, hq2, hTb, hkb⟩ := hp_14
    have hex2 : mm_Ext M M_13 := hex1.two nq_6 hq2 hkb
    have hqa2 : M q2 = none := hex1.none hq2
    have hva2 := hex2.at hv9
    refine va_ldcS hx hb hown (hE.2.2.2.2.2.1 _ (List.mem_of_getElem? (i := 48) rfl)) dX2_putValue_26 ?_
    obtain ⟨-, -, -, ⟨sr0, hS0, ns0⟩, -⟩ := id hx9
    have hS02 := hS0.ext hex2
    have hne0 : sr0 ≠ q2 := fun h9 => by obtain ⟨z1, z2, z3, z4, -⟩ := hS0; rw [h9, hqa2] at z4; cases z4
    have hA0 := c_J19_append l Z hTb (by decide) hS02 hne0
    rw [show tb_mk (([] : List Nat).length + ([] : List Nat).length) 16 = 0 from rfl, show tb_ms (([] : List Nat).length + ([] : List Nat).length) 16 = 0 from rfl] at hA0
    refine mm_callV (As := [.ref (Z.2.2.2 0)]) (rest := []) ⟨hx, hb, hml, hown, hts⟩ hE hST hA hA0 (cwV 1 hts (lw_V q2832 q1333 q1334 q93 q1335) rfl rfl rfl (by decide +kernel) ⟨(by (try dsimp only); omega), (by (try dsimp only); omega)⟩) hM hS mm_cJ19 hTb.1 rfl hl.1 (Nat.le_of_ble_eq_true rfl) dX2_putValue_28 rfl ⟨(by (try dsimp only); omega), (by (try dsimp only); omega)⟩ (fun _ _ _ _ _ _ h9 => h9.elim) (fun v_15 M_16 H locs hp_17 hM hS => ?_)
    obtain ⟨rfl, hp9⟩ := hp_17
    have hex3 : mm_Ext M M_16 := hp9.ext hex2 nq_6 hqa2
    obtain ⟨q3, hTb3, hq3⟩ := hp9.none hex2 hqa2
    replace hTb3 : TB Z M_16 q_7 q3 16 [] := hTb3
    have hva3 := hex3.at hv9
    refine lv_aload_n hx hb dX2_putValue_31 rfl (lv_at hl 0 rfl) ?_
    refine va_get (D := Z.1) (ci := 32) (v := .int (nI n)) (C := RX38) (T := TX38) (N := 5) hx hb hts in_X38 hown hE.1 (hM.at hva3) 0 rfl mm_cX38 1 (by decide) (hts _ q2783) (fun _ h9 => h9) rfl dX2_putValue_32 ?_
    have hx3 := hex3.tx hx9
    have hd3 := hx9.1
    obtain ⟨d1, d2, hd4, hd5, -⟩ := hd3
    have hn3 : q3 ≠ Z.2.2.1 3 := fun h9 => by rw [← h9, hq3] at hd4; cases hd4
    have hn4 : q3 ≠ Z.2.2.1 4 := fun h9 => by rw [← h9, hq3] at hd5; cases hd5
    obtain ⟨tz1, tz2, tz3⟩ := tb_mk0 (mn := ([] : List Nat).length + (dgx (nI n)).length) (cap := 16) (by rw [hds, List.length_nil]; omega)
    have hAp := c_J19_appendX l Z hTb3 (by decide) (by decide) hx3.1 hn3 hn4 (x := nI n)
    rw [tz1, tz2] at hAp
    refine mm_callV (As := [.int (nI n)]) (rest := []) ⟨hx, hb, hml, hown, hts⟩ hE hST hA hAp (cwV 1 hts (lw_V q2833 q1437 q1438 q93 q1439) rfl rfl rfl (by decide +kernel) ⟨(by (try dsimp only); omega), (by (try dsimp only); omega)⟩) hM hS mm_cJ19 hTb3.1 rfl hl.1 (Nat.le_of_ble_eq_true rfl) dX2_putValue_35 rfl ⟨(by (try dsimp only); omega), (by (try dsimp only); omega)⟩ (fun _ _ _ _ _ _ h9 => h9.elim) (fun v_18 M_19 H locs hp_20 hM hS => ?_)
    obtain ⟨rfl, hp9⟩ := hp_20
    have hex4 : mm_Ext M M_19 := hp9.ext hex3 nq_6 hq3
    obtain ⟨q4, hTb4, hq4⟩ := hp9.none hex3 hq3
    rw [tz3, hds] at hTb4
    replace hTb4 : TB Z M_19 q_7 q4 16 ds := hTb4
    have hva4 := hex4.at hv9
    refine mm_callV (As := []) (rest := []) ⟨hx, hb, hml, hown, hts⟩ hE hST hA (c_J19_toString l Z hTb4 (by omega)) (cwV 0 hts (lw_V q2753 q1463 q1464 q93 q1465) rfl rfl rfl (by decide +kernel) ⟨(by (try dsimp only); omega), (by (try dsimp only); omega)⟩) hM hS mm_cJ19 hTb4.1 rfl hl.1 (Nat.le_of_ble_eq_true rfl) dX2_putValue_38 rfl ⟨(by (try dsimp only); omega), (by (try dsimp only); omega)⟩ (fun _ _ _ _ _ _ h9 => h9.elim) (fun v_21 M_22 H locs hp_23 hM hS => ?_)
    obtain ⟨sa, sr, hsa, hsr, rfl, hSs, hks⟩ := hp_23
    have hex5 : mm_Ext M M_22 := hex4.two (hex4.none hsa) hsr hks
    have hsr0 : M sr = none := hex4.none hsr
    refine lv_astore_n hx hb dX2_putValue_41 rfl hl (by decide) rfl (fun ls hl => ?_)
    replace hl : lv_has ls 4 [(2, .ref sa), (0, .ref va), (1, .ref b)] := hl
    refine lv_iconst (v := 0) hx hb dX2_putValue_42 (by decide) ?_
    refine lv_istore_n hx hb dX2_putValue_43 rfl hl (by decide) rfl (fun ls hl => ?_)
    replace hl : lv_has ls 4 [(3, .int 0), (2, .ref sa), (0, .ref va), (1, .ref b)] := hl
    have hBF := hex5.BF hT9
    have hTx := hex5.tx hx9
    have hnr : sr ≠ ar := fun h9 => by have := hT9.2.1; rw [← h9, hsr0] at this; cases this
    refine mm_loopW (fun k M' ls cells slots => ∃ (i ar' : Nat), k = ds.length - i ∧ i ≤ ds.length ∧ lv_has ls 4 [(3, .int (nI i)), (2, .ref sa), (0, .ref va), (1, .ref b)] ∧ BF Z M M' b ar ar' (pz ss (ds.take i)) ∧ (ST Z M' sa sr ds ∧ sr ≠ ar') ∧ cells ≤ 4 + ((pz ss (ds.take i)).2 - ss.2) ∧ slots ≤ 36 + (2 * (pz ss (ds.take i)).2 - 2 * ss.2)) (fun k M3 ls H locs cells slots ih hI hM hS => ?_) ⟨0, _, rfl, by omega, lv_sub hl [0, 1, 2, 3] rfl, hBF, ⟨hSs, hnr⟩, by (try dsimp only); omega, by (try dsimp only); omega⟩ hM hS
    obtain ⟨i, ar', rfl, hi9, hl, hB, ⟨hSi, hni⟩, hc3, hs3⟩ := hI
    have hTB := hB.1
    have hpi := (pz_pl (ds.take i) ss hl9).2
    obtain ⟨hi1, hi2, hi3, hi4⟩ := hpi
    have hi5 := hi4 hc9
    have hpj : pg (pz ss (ds.take i)) (pz ss ds) := (pz_split (s := ss) (ds := ds) i).symm ▸ (pz_pl (ds.drop i) _ hi1).2
    obtain ⟨-, hj2, hj3, -⟩ := hpj
    obtain ⟨sh1, sh2, sh3, -⟩ := id hSi
    refine lv_iload_n hx hb dX2_putValue_44 rfl (lv_at hl 0 rfl) ?_
    refine lv_aload_n hx hb dX2_putValue_45 rfl (lv_at hl 1 rfl) ?_
    refine mm_callV (As := []) (rest := [.int (nI i)]) ⟨hx, hb, hml, hown, hts⟩ hE hST hA (c_J13_length l Z hSi) (cwV 0 hts (lw_V q2754 q1395 q1396 q67 q1397) rfl rfl rfl (by decide +kernel) ⟨(by (try dsimp only); omega), (by (try dsimp only); omega)⟩) hM hS mm_cJ13 sh3 rfl hl.1 (Nat.le_of_ble_eq_true rfl) dX2_putValue_46 rfl ⟨(by (try dsimp only); omega), (by (try dsimp only); omega)⟩ (fun _ _ _ _ _ _ h9 => h9.elim) (fun v_24 M_25 H locs hp_26 hM hS => ?_)
    obtain ⟨rfl, eM_25⟩ := hp_26
    rw [eM_25] at hM
    refine lv_icmp_ge (tgt := 67) hx hb dX2_putValue_49 (by decide) (fun c_27 => ?_) (fun c_27 => ?_)
    · skip
      obtain rfl : i = ds.length := by have := (nI_leI (a := ds.length) (b := i) (by omega) (by omega)).1 c_27; omega
      rw [List.take_length] at hB hc3 hs3
      refine lv_goto (tgt := 210) hx hb dX2_putValue_67 (by decide) ?_
      exact mm_retv hx hb hr hlk hM hS ⟨rfl, _, hB⟩ dX2_putValue_210 (by (try dsimp only); omega) (by (try dsimp only); omega)
    · skip
      have hi : i < ds.length := (nI_ltI (b := ds.length) (by omega) (by omega)).1 (Int32.not_le.1 c_27)
      refine lv_aload_n hx hb dX2_putValue_52 rfl (lv_at hl 3 rfl) ?_
      refine lv_aload_n hx hb dX2_putValue_53 rfl (lv_at hl 1 rfl) ?_
      refine lv_iload_n hx hb dX2_putValue_54 rfl (lv_at hl 0 rfl) ?_
      refine mm_callV (As := [.int (nI i)]) (rest := [.ref b]) ⟨hx, hb, hml, hown, hts⟩ hE hST hA (c_J13_charAt l Z hSi hi) (cwV 1 hts (lw_V q2759 q1757 q1758 q67 q1759) rfl rfl rfl (by decide +kernel) ⟨(by (try dsimp only); omega), (by (try dsimp only); omega)⟩) hM hS mm_cJ13 sh3 rfl hl.1 (Nat.le_of_ble_eq_true rfl) dX2_putValue_55 rfl ⟨(by (try dsimp only); omega), (by (try dsimp only); omega)⟩ (fun _ _ _ _ _ _ h9 => h9.elim) (fun v_28 M_29 H locs hp_30 hM hS => ?_)
      obtain ⟨rfl, eM_29⟩ := hp_30
      rw [eM_29] at hM
      have hk9 : ds.getD i 0 < 128 := by rw [List.getD_eq_getElem?_getD, List.getElem?_eq_getElem hi]; exact hdo _ (List.getElem_mem hi)
      obtain ⟨baw_31, bbw_31, bcw_31, bdw_31⟩ := ps1_b (s := (pz ss (ds.take i))) (k := ds.getD i 0)
      have bew_31 := (ps1_pl (s := (pz ss (ds.take i))) (k := ds.getD i 0) (by omega)).2
      have bfw_31 := bcw_31 (by omega)
      have hq1 : ps1 (pz ss (ds.take i)) (ds.getD i 0) = pz ss (ds.take (i + 1)) := (pz_take hi).symm
      obtain ⟨hu1, hu2, hu3, hu4⟩ : pg (pz ss (ds.take (i + 1))) (pz ss ds) := (pz_split (s := ss) (ds := ds) (i + 1)).symm ▸ (pz_pl (ds.drop (i + 1)) _ (pz_pl (ds.take (i + 1)) ss hl9).2.1).2
      rw [← hq1] at hu2 hu3 hu4
      refine mm_callS (As := [.ref b, .int (nI (ds.getD i 0))]) (rest := []) ⟨hx, hb, hml, hown, hts⟩ hE hST hA (c_X2_put l Z (ss := pz ss (ds.take i)) (k := ds.getD i 0) hk9 (by omega) (by omega) hTB) (va_cwS 2 hts (lw_S q2743 q2744 q54 q2745) rfl rfl rfl (by decide +kernel) ⟨(by (try dsimp only); omega), (by (try dsimp only); omega)⟩) hM hS rfl hl.1 (Nat.le_of_ble_eq_true rfl) dX2_putValue_58 rfl ⟨(by (try dsimp only); omega), (by (try dsimp only); omega)⟩ (fun _ _ _ _ _ _ h9 => h9.elim) (fun v_32 M_33 H locs hp_34 hM hS => ?_)
      obtain ⟨rfl, ar2, hB2⟩ := hp_34
      have hB3 := hB.trans hB2
      have hS3 := hSi.BF hB2 hTB hni
      have hn3 : sr ≠ ar2 := fun h9 => by
          rcases hB2.2.2 with h8 | h8
          · exact hni (h9.trans h8)
          · obtain ⟨z1, z2, z3, z4, -⟩ := hSi; rw [h9, h8] at z4; cases z4
      rw [hq1] at hB3
      obtain ⟨x_35, ex_35⟩ : ∃ z : Int32, z = (nI i) + 1 := ⟨_, rfl⟩
      refine lv_iinc (v := x_35) (lv' := [(3, .int x_35), (2, .ref sa), (0, .ref va), (1, .ref b)]) hx hb dX2_putValue_61 hl (k := 0) rfl (by rw [ex_35]; rfl) (by decide) rfl (fun ls hl => ?_)
      rw [show x_35 = nI (i + 1) from by rw [ex_35]; exact nI_1 i] at hl
      refine lv_goto (tgt := 44) hx hb dX2_putValue_64 (by decide) ?_
      refine ih (ds.length - (i + 1)) (by omega) _ _ _ _ _ _ ⟨i + 1, ar2, rfl, hi, lv_sub hl [0, 1, 2, 3] rfl, hB3, ⟨hS3, hn3⟩, by rw [← hq1]; (try dsimp only); omega, by rw [← hq1]; (try dsimp only); omega⟩ hM hS
  · skip
    have h3 : 300 ≤ ss.1.length := Nat.le_of_not_lt (fun h9 => c_5 ((nI_ltI (a := ss.1.length) (b := 300) (by omega) (by omega)).2 h9))
    rw [if_pos h3]
    exact mm_retv hx hb hr hlk hM hS ⟨rfl, _, BF.rf hT9⟩ dX2_putValue_10 (by (try dsimp only); omega) (by (try dsimp only); omega)
theorem c_X2_putValue (l : Launch) (Z : mm_G) (T : List pt_R) (N : Nat) : ∀ v : ev, SizeOf.sizeOf v < N → putC l Z T v := by
  induction N with
  | zero => intro v h; omega
  | succ N ih =>
    intro v h s M va b ar h1 h2 h3 h4 h5
    cases v with
    | natCast n =>
      simp only [mr] at h5
      obtain ⟨a, e, h6⟩ := h5
      cases e
      exact c_X2_putValue_n l Z h1 h2 h3 h4 h6
    | sub t e =>
      obtain ⟨t8, rfl⟩ : ∃ t8, t = .natCast t8 := by cases t <;> first | exact ⟨_, rfl⟩ | (simp [mr] at h5; done)
      simp only [mr] at h5
      obtain ⟨a, r, sc, e, -, -, h6, -⟩ := h5
      cases e
      exact c_X2_putValue_f (n := 0) l Z h1 h2 h3 h4 h6
    | add x r => exact c_X2_putValue_r l Z h1 h2 h3 h4 h5 (fun v hv => ih v (by omega))
    | pow u k => exact c_X2_putValue_c l Z h1 h2 h3 h4 h5 (ih u (by simp at h; omega))
    | _ => exact absurd h5 (by simp [mr])
