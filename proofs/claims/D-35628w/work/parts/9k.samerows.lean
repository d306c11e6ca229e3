/-! ===== the model: sameRows ===== -/
set_option maxRecDepth 100000
set_option maxHeartbeats 4000000 in
set_option maxRecDepth 100000 in
theorem d_X2_sameRows (l : Launch) (Z : mm_G) {M : mm_M} {md kd wh f1 f2 f3 wg pl : Nat} {tm ea sp th ak wr tk : Int32} {rt : Option Nat} {fa : Bool} {n k : Nat} (ih : mUn l Z n md (fun st => md_E tm kd wh f1 f2 f3 wg ea sp rt th ak wr pl tk fa st)) {L : List Nat} {vr : Nat → Nat} {D : Nat → Bool} {S : ts} {kn : Nat → Bool} {r1 r2 : ev} {a1 a2 : Nat} {r : te} {Hh d Dd b : Nat} (hmd : M md = some (md_E tm kd wh f1 f2 f3 wg ea sp rt th ak wr pl tk fa (nJ k))) (hSt : mSt M L k) (hk : k + 8 * mPhi M L + 4 * Dd + 8 < 2 ^ 62) (hC : mCI M L vr D S) (hG : usg S kn) (ht1 : mtp M L vr D r1 true a1) (ht2 : mtp M L vr D r2 true a2) (hw1 : uwf (uG S kn) true (uap S.2.1 r1)) (hw2 : uwf (uG S kn) true (uap S.2.1 r2)) (hr9 : tRows (tU n) S (uap S.2.1 r1) (uap S.2.1 r2) = some r) (hB9 : mB M L vr D S b) (hH : 2 * b + 3 ≤ Hh) (hD : Dd + d = Hh) (hdp : mDeep M L vr D S r1 d) : mm_D l Z yX2_sameRows (ws_ yX2_sameRows cX2_sameRows 14 none) { frames := 2 * Hh + 24 + 2 * Dd, cells := 27 * mPhi M L + 9 * Dd + 46, slots := 180 * mPhi M L + 40 * Dd + 300, locals := 30 * Hh + 800 + 60 * Dd } [.ref md, .ref a1, .ref a2] M (mUP md (fun st => md_E tm kd wh f1 f2 f3 wg ea sp rt th ak wr pl tk fa st) M L vr D S r1 1 r k) (fun E9 q M' => ∃ er, r = .inl er ∧ mX M er E9 q M') := by
  refine mm_ofWD (cc := cX2_sameRows) (maxL := 14) (ret := none) (by decide) rfl (Nat.le_of_ble_eq_true rfl) ?_
  intro p e s m below meth c A ls hx hb hr hlk hml hown hmn hts htab hE hST hA hM hS hl
  replace hl : lv_has ls 14 [(0, .ref md), (1, .ref a1), (2, .ref a2)] := hl
  have hdl := hdp.le hC hB9
  refine lv_bipush (v := 10) hx hb dX2_sameRows_0 (by decide) ?_
  refine mm_newq hx hb hown (hts _ q2497) (hE.2.2.2.2.1 _ (by decide)) hE.1 hM hS hA 8 rfl (by decide) (show Int32.toNatClampNeg 10 = 10 from by decide) (by decide) (by (try dsimp only); omega) (by (try dsimp only); omega) dX2_sameRows_2 (fun q_1 H nq_2 hM hS => ?_)
  have hM : mm_P Z.1 mm_cl A (mm_U M q_1 (.inl (Z.2.1 8, 10, .inr (.inr (.inr (.inr (fun _ => none))))))) H := hM
  have hc_3 : (mm_U M q_1 (.inl (Z.2.1 8, 10, .inr (.inr (.inr (.inr (fun _ => none))))))) q_1 = some (.inl (Z.2.1 8, 10, .inr (.inr (.inr (.inr (fun _ => none)))))) := mm_U_eq
  obtain ⟨M_4, eM_4⟩ : ∃ z, z = mm_U M q_1 (.inl (Z.2.1 8, 10, .inr (.inr (.inr (.inr (fun _ => none)))))) := ⟨_, rfl⟩
  rw [← eM_4] at hM hc_3
  have hexa : mm_Ext M M_4 := by rw [eM_4]; exact mm_Ext.U nq_2
  refine lv_astore_n hx hb dX2_sameRows_5 rfl hl (by decide) rfl (fun ls hl => ?_)
  replace hl : lv_has ls 14 [(3, .ref q_1), (0, .ref md), (1, .ref a1), (2, .ref a2)] := hl
  refine lv_bipush (v := 10) hx hb dX2_sameRows_6 (by decide) ?_
  refine mm_newq hx hb hown (hts _ q2497) (hE.2.2.2.2.1 _ (by decide)) hE.1 hM hS hA 8 rfl (by decide) (show Int32.toNatClampNeg 10 = 10 from by decide) (by decide) (by (try dsimp only); omega) (by (try dsimp only); omega) dX2_sameRows_8 (fun q_5 H nq_6 hM hS => ?_)
  have hM : mm_P Z.1 mm_cl A (mm_U M_4 q_5 (.inl (Z.2.1 8, 10, .inr (.inr (.inr (.inr (fun _ => none))))))) H := hM
  have ne_7 : q_1 ≠ q_5 := (mm_neN hc_3 nq_6)
  have hc_8 : (mm_U M_4 q_5 (.inl (Z.2.1 8, 10, .inr (.inr (.inr (.inr (fun _ => none))))))) q_5 = some (.inl (Z.2.1 8, 10, .inr (.inr (.inr (.inr (fun _ => none)))))) := mm_U_eq
  have hc_9 : (mm_U M_4 q_5 (.inl (Z.2.1 8, 10, .inr (.inr (.inr (.inr (fun _ => none))))))) q_1 = some (.inl (Z.2.1 8, 10, .inr (.inr (.inr (.inr (fun _ => none)))))) := (mm_U_ne ne_7).trans hc_3
  obtain ⟨M_10, eM_10⟩ : ∃ z, z = mm_U M_4 q_5 (.inl (Z.2.1 8, 10, .inr (.inr (.inr (.inr (fun _ => none)))))) := ⟨_, rfl⟩
  rw [← eM_10] at hM hc_9 hc_8
  have hq20 : M q_5 = none := Classical.byContradiction fun h9 => by have := hexa q_5 h9; rw [nq_6] at this; exact h9 this.symm
  have hex1 : mm_Ext M M_10 := hexa.trans (by rw [eM_10]; exact mm_Ext.U nq_6)
  have hq12 : q_1 ≠ q_5 := ne_7
  have hA11 := hc_9
  have hA12 := hc_8
  refine lv_astore hx hb dX2_sameRows_11 hl (by decide) rfl (fun ls hl => ?_)
  replace hl : lv_has ls 14 [(4, .ref q_5), (3, .ref q_1), (0, .ref md), (1, .ref a1), (2, .ref a2)] := hl
  refine lv_aload_n hx hb dX2_sameRows_13 rfl (lv_at hl 3 rfl) ?_
  refine lv_aload_n hx hb dX2_sameRows_14 rfl (lv_at hl 1 rfl) ?_
  refine mm_callS (As := [.ref a1, .ref q_1]) (rest := []) ⟨hx, hb, hml, hown, hts⟩ hE hST hA (c_X2_lays l Z (B := M) hex1 nq_2 hA11 hC rfl ht1) (va_cwS 2 hts (lw_S q2676 q2677 q54 q2678) rfl rfl rfl (by decide +kernel) ⟨(by (try dsimp only); omega), (by (try dsimp only); omega)⟩) hM hS rfl hl.1 (Nat.le_of_ble_eq_true rfl) dX2_sameRows_15 rfl ⟨(by (try dsimp only); omega), (by (try dsimp only); omega)⟩ (fun _ _ _ _ _ _ h9 => h9.elim) (fun v_11 M_12 H locs hp_13 hM hS => ?_)
  obtain ⟨b1, y1, rfl, eM_12, hY1, hE1, hm1⟩ := hp_13
  have hA21 : M_12 q_1 = some (ty_A Z y1) := by rw [eM_12]; exact mm_U_eq
  have hA22 := (show M_12 q_5 = M_10 q_5 from by rw [eM_12]; exact mm_U_ne (Ne.symm hq12)).trans hA12
  have hex2 : mm_Ext M M_12 := fun q9 h9 => by rw [eM_12, mm_U_ne (fun e => h9 (by rw [e]; exact nq_2))]; exact hex1 q9 h9
  refine lv_astore hx hb dX2_sameRows_18 hl (by decide) rfl (fun ls hl => ?_)
  replace hl : lv_has ls 14 [(5, .ref b1), (4, .ref q_5), (3, .ref q_1), (0, .ref md), (1, .ref a1), (2, .ref a2)] := hl
  refine lv_aload_n hx hb dX2_sameRows_20 rfl (lv_at hl 5 rfl) ?_
  refine lv_aload hx hb dX2_sameRows_21 (lv_at hl 1 rfl) ?_
  refine mm_callS (As := [.ref a2, .ref q_5]) (rest := []) ⟨hx, hb, hml, hown, hts⟩ hE hST hA (c_X2_lays l Z (B := M) hex2 hq20 hA22 hC rfl ht2) (va_cwS 2 hts (lw_S q2676 q2677 q54 q2678) rfl rfl rfl (by decide +kernel) ⟨(by (try dsimp only); omega), (by (try dsimp only); omega)⟩) hM hS rfl hl.1 (Nat.le_of_ble_eq_true rfl) dX2_sameRows_23 rfl ⟨(by (try dsimp only); omega), (by (try dsimp only); omega)⟩ (fun _ _ _ _ _ _ h9 => h9.elim) (fun v_14 M_15 H locs hp_16 hM hS => ?_)
  obtain ⟨b2, y2, rfl, eM_15, hY2, hE2, hm2⟩ := hp_16
  have hA32 : M_15 q_5 = some (ty_A Z y2) := by rw [eM_15]; exact mm_U_eq
  have hA31 := (show M_15 q_1 = M_12 q_1 from by rw [eM_15]; exact mm_U_ne hq12).trans hA21
  have hex3 : mm_Ext M M_15 := fun q9 h9 => by rw [eM_15, mm_U_ne (fun e => h9 (by rw [e]; exact hq20))]; exact hex2 q9 h9
  have hB1 : ∀ l, l < 10 → uhs (ufl (uap S.2.1 r1) (fun _ => none) 0).2.1 l = ((ufl (uap S.2.1 r1) (fun _ => none) 0).1 l).isSome := fun l hl => by obtain ⟨p1, p2, -⟩ := ufl_spec hw1 (fun _ => none) 0; rw [p1, p2 l hl, uhs_0 hl]; simp
  have hU1 : ∀ l, (ufl (uap S.2.1 r1) (fun _ => none) 0).1 l = uget (uap S.2.1 r1) l := fun l => by obtain ⟨p1, -, -⟩ := ufl_spec hw1 (fun _ => none) 0; rw [p1]; simp
  have hV1 : (ufl (uap S.2.1 r1) (fun _ => none) 0).2.2 = uend (uap S.2.1 r1) := (ufl_spec hw1 (fun _ => none) 0).2.2
  have hB2 : ∀ l, l < 10 → uhs (ufl (uap S.2.1 r2) (fun _ => none) 0).2.1 l = ((ufl (uap S.2.1 r2) (fun _ => none) 0).1 l).isSome := fun l hl => by obtain ⟨p1, p2, -⟩ := ufl_spec hw2 (fun _ => none) 0; rw [p1, p2 l hl, uhs_0 hl]; simp
  have hU2 : ∀ l, (ufl (uap S.2.1 r2) (fun _ => none) 0).1 l = uget (uap S.2.1 r2) l := fun l => by obtain ⟨p1, -, -⟩ := ufl_spec hw2 (fun _ => none) 0; rw [p1]; simp
  have hV2 : (ufl (uap S.2.1 r2) (fun _ => none) 0).2.2 = uend (uap S.2.1 r2) := (ufl_spec hw2 (fun _ => none) 0).2.2
  unfold tRows at hr9
  dsimp only at hr9
  generalize (ufl (uap S.2.1 r1) (fun _ => none) 0).1 = F1 at hr9 hY1 hm1 hB1 hU1; generalize (ufl (uap S.2.1 r1) (fun _ => none) 0).2.1 = B1 at hr9 hm1 hB1; generalize (ufl (uap S.2.1 r1) (fun _ => none) 0).2.2 = E1 at hr9 hE1 hV1
  have hmk1 := hY1.msk.trans hm1
  obtain ⟨g1, hX01, hg1⟩ := hY1.G
  have hX31 := hX01.K hex3.mK
  generalize (ufl (uap S.2.1 r2) (fun _ => none) 0).1 = F2 at hr9 hY2 hm2 hB2 hU2; generalize (ufl (uap S.2.1 r2) (fun _ => none) 0).2.1 = B2 at hr9 hm2 hB2; generalize (ufl (uap S.2.1 r2) (fun _ => none) 0).2.2 = E2 at hr9 hE2 hV2
  have hmk2 := hY2.msk.trans hm2
  obtain ⟨g2, hX02, hg2⟩ := hY2.G
  have hX32 := hX02.K hex3.mK
  refine lv_astore hx hb dX2_sameRows_26 hl (by decide) rfl (fun ls hl => ?_)
  replace hl : lv_has ls 14 [(6, .ref b2), (5, .ref b1), (4, .ref q_5), (3, .ref q_1), (0, .ref md), (1, .ref a1), (2, .ref a2)] := hl
  refine lv_aload_n hx hb dX2_sameRows_28 rfl (lv_at hl 3 rfl) ?_
  refine mm_callS (As := [.ref q_1]) (rest := []) ⟨hx, hb, hml, hown, hts⟩ hE hST hA (c_X2_setOf l Z hA31) (va_cwS 1 hts (lw_S q2679 q2680 q54 q2681) rfl rfl rfl (by decide +kernel) ⟨(by (try dsimp only); omega), (by (try dsimp only); omega)⟩) hM hS rfl hl.1 (Nat.le_of_ble_eq_true rfl) dX2_sameRows_29 rfl ⟨(by (try dsimp only); omega), (by (try dsimp only); omega)⟩ (fun _ _ _ _ _ _ h9 => h9.elim) (fun v_17 M_18 H locs hp_19 hM hS => ?_)
  obtain ⟨rfl, eM_18⟩ := hp_19
  rw [eM_18] at hM
  rw [hmk1]
  refine lv_istore hx hb dX2_sameRows_32 hl (by decide) rfl (fun ls hl => ?_)
  replace hl : lv_has ls 14 [(7, .int B1), (6, .ref b2), (5, .ref b1), (4, .ref q_5), (3, .ref q_1), (0, .ref md), (1, .ref a1), (2, .ref a2)] := hl
  refine lv_aload hx hb dX2_sameRows_34 (lv_at hl 3 rfl) ?_
  refine mm_callS (As := [.ref q_5]) (rest := []) ⟨hx, hb, hml, hown, hts⟩ hE hST hA (c_X2_setOf l Z hA32) (va_cwS 1 hts (lw_S q2679 q2680 q54 q2681) rfl rfl rfl (by decide +kernel) ⟨(by (try dsimp only); omega), (by (try dsimp only); omega)⟩) hM hS rfl hl.1 (Nat.le_of_ble_eq_true rfl) dX2_sameRows_36 rfl ⟨(by (try dsimp only); omega), (by (try dsimp only); omega)⟩ (fun _ _ _ _ _ _ h9 => h9.elim) (fun v_20 M_21 H locs hp_22 hM hS => ?_)
  obtain ⟨rfl, eM_21⟩ := hp_22
  rw [eM_21] at hM
  rw [hmk2]
  refine lv_istore hx hb dX2_sameRows_39 hl (by decide) rfl (fun ls hl => ?_)
  replace hl : lv_has ls 14 [(8, .int B2), (7, .int B1), (6, .ref b2), (5, .ref b1), (4, .ref q_5), (3, .ref q_1), (0, .ref md), (1, .ref a1), (2, .ref a2)] := hl
  refine lv_iload hx hb dX2_sameRows_41 (lv_at hl 1 rfl) ?_
  refine lv_iload hx hb dX2_sameRows_43 (lv_at hl 0 rfl) ?_
  refine lv_iconst (v := -1) hx hb dX2_sameRows_45 (by decide) ?_
  refine lv_ixor hx hb dX2_sameRows_46 ?_
  refine lv_iand hx hb dX2_sameRows_47 ?_
  obtain ⟨own, hown9⟩ : ∃ z, z = (B1 &&& (B2 ^^^ (-1))) := ⟨_, rfl⟩
  rw [show (B1 &&& (B2 ^^^ (-1)) : Int32) = own from hown9.symm]
  refine lv_istore hx hb dX2_sameRows_48 hl (by decide) rfl (fun ls hl => ?_)
  replace hl : lv_has ls 14 [(9, .int own), (8, .int B2), (7, .int B1), (6, .ref b2), (5, .ref b1), (4, .ref q_5), (3, .ref q_1), (0, .ref md), (1, .ref a1), (2, .ref a2)] := hl
  refine lv_iload hx hb dX2_sameRows_50 (lv_at hl 1 rfl) ?_
  refine lv_iload hx hb dX2_sameRows_52 (lv_at hl 2 rfl) ?_
  refine lv_iconst (v := -1) hx hb dX2_sameRows_54 (by decide) ?_
  refine lv_ixor hx hb dX2_sameRows_55 ?_
  refine lv_iand hx hb dX2_sameRows_56 ?_
  obtain ⟨its, hits9⟩ : ∃ z, z = (B2 &&& (B1 ^^^ (-1))) := ⟨_, rfl⟩
  rw [show (B2 &&& (B1 ^^^ (-1)) : Int32) = its from hits9.symm]
  rw [← hown9, ← hits9] at hr9
  have ho : ∀ l, l < 10 → uhs own l = ((uget (uap S.2.1 r1) l).isSome && !(uget (uap S.2.1 r2) l).isSome) := fun l hl => by rw [hown9, uhs_and hl, uhs_not hl, hB1 l hl, hB2 l hl, hU1, hU2]
  have hi : ∀ l, l < 10 → uhs its l = ((uget (uap S.2.1 r2) l).isSome && !(uget (uap S.2.1 r1) l).isSome) := fun l hl => by rw [hits9, uhs_and hl, uhs_not hl, hB1 l hl, hB2 l hl, hU1, hU2]
  have hs1 : ∀ l, l < 10 → uhs own l = true → g1 l ≠ none := fun l hl h1 h2 => by rw [ho l hl, ← hU1, hg1 l hl, h2] at h1; simp at h1
  have hs2 : ∀ l, l < 10 → uhs its l = true → g2 l ≠ none := fun l hl h1 h2 => by rw [hi l hl, ← hU2, hg2 l hl, h2] at h1; simp at h1
  have hC3 := hC.ext hex3
  have hmd3 := hex3.at hmd
  have hSt3 := hSt.ext hC hex3
  have hP3 : mPhi M_15 L = mPhi M L := by unfold mPhi; exact List.countP_congr fun z hz => by obtain ⟨m9, t9, h9⟩ := hC.2.2.1 z hz; unfold mnext; rw [hex3 z h9.has]
  have hB3 : mB M_15 L vr D S b := hB9.goR hC hC3 hex3.mK (fun _ h => h) (fun _ h => ⟨h, rfl⟩) hC.1.1.le (mNw.rf _ _)
  refine lv_istore hx hb dX2_sameRows_57 hl (by decide) rfl (fun ls hl => ?_)
  replace hl : lv_has ls 14 [(10, .int its), (9, .int own), (8, .int B2), (7, .int B1), (6, .ref b2), (5, .ref b1), (4, .ref q_5), (3, .ref q_1), (0, .ref md), (1, .ref a1), (2, .ref a2)] := hl
  refine mm_cutM (pc2 := 327) (rest2 := []) (A := A) (Z := Z) (H0 := s.heap) (fun M' ls' c2 s2 => lv_has ls' 14 [(0, .ref md), (3, .ref q_1), (4, .ref q_5)] ∧ ∃ (S1 : ts) (L1 : List Nat) (vr1 : Nat → Nat) (D1 : Nat → Bool) (kn1 : Nat → Bool) (k1 : Nat), tLabs (tU n) F1 F2 (B1 &&& B2) 10 S1 = some r ∧ uGo S kn S1 kn1 ∧ mK M_15 M' ∧ mCI M' L1 vr1 D1 S1 ∧ (∀ a ∈ L, a ∈ L1) ∧ (∀ v, D v = true → D1 v = true ∧ vr1 v = vr v) ∧ S.1 ≤ S1.1 ∧ (∀ v, D1 v = true ↔ D v = true ∨ (S.1 ≤ v ∧ v < S1.1)) ∧ mPd D S S1 ∧ mPhi M' L1 ≤ mPhi M L ∧ mNw M' L L1 ∧ c2 + 27 * mPhi M' L1 ≤ 27 * mPhi M L + 9 ∧ s2 + 180 * mPhi M' L1 ≤ 180 * mPhi M L + 40 ∧ L1.length + mPhi M' L1 ≤ L.length + mPhi M L ∧ M' md = some (md_E tm kd wh f1 f2 f3 wg ea sp rt th ak wr pl tk fa (nJ k1)) ∧ mSt M' L1 k1 ∧ k1 + 8 * mPhi M' L1 ≤ k + 8 * mPhi M L + 4 ∧ ∀ z, M z ≠ none → mnext M z = none → mnext M' z ≠ none → mVar M z) (fun kk => ?_) (fun M4 ls H locs cells slots hI hM hS => ?_)
  · skip
    rcases E1 with _ | v <;> rcases E2 with _ | w
    · skip
      have hz1 := hex3.at hE1
      have hz2 := hex3.at hE2
      refine lv_aload hx hb dX2_sameRows_59 (lv_at hl 5 rfl) ?_
      refine va_get (D := Z.1) (ci := 22) (v := .int 1) (C := RX27) (T := TX27) (N := 7) hx hb hts in_X27 hown hE.1 (hM.at hz1) 0 rfl mm_cX27 0 (by decide) (hts _ q2577) (fun _ h9 => h9) rfl dX2_sameRows_61 ?_
      refine lv_if_ne (tgt := 71) hx hb dX2_sameRows_64 (by decide) (fun _ => ?_) (fun h9 => absurd h9 (by decide))
      refine lv_iconst (v := 0) hx hb dX2_sameRows_71 (by decide) ?_
      refine lv_istore hx hb dX2_sameRows_72 hl (by decide) rfl (fun ls hl => ?_)
      replace hl : lv_has ls 14 [(11, .int 0), (10, .int its), (9, .int own), (8, .int B2), (7, .int B1), (6, .ref b2), (5, .ref b1), (4, .ref q_5), (3, .ref q_1), (0, .ref md), (1, .ref a1), (2, .ref a2)] := hl
      refine lv_aload hx hb dX2_sameRows_74 (lv_at hl 5 rfl) ?_
      refine va_get (D := Z.1) (ci := 22) (v := .int 1) (C := RX27) (T := TX27) (N := 7) hx hb hts in_X27 hown hE.1 (hM.at hz2) 0 rfl mm_cX27 0 (by decide) (hts _ q2577) (fun _ h9 => h9) rfl dX2_sameRows_76 ?_
      refine lv_if_ne (tgt := 86) hx hb dX2_sameRows_79 (by decide) (fun _ => ?_) (fun h9 => absurd h9 (by decide))
      refine lv_iconst (v := 0) hx hb dX2_sameRows_86 (by decide) ?_
      refine lv_istore hx hb dX2_sameRows_87 hl (by decide) rfl (fun ls hl => ?_)
      replace hl : lv_has ls 14 [(12, .int 0), (11, .int 0), (10, .int its), (9, .int own), (8, .int B2), (7, .int B1), (6, .ref b2), (5, .ref b1), (4, .ref q_5), (3, .ref q_1), (0, .ref md), (1, .ref a1), (2, .ref a2)] := hl
      refine lv_iload hx hb dX2_sameRows_89 (lv_at hl 3 rfl) ?_
      refine mm_cutM (pc2 := 119) (rest2 := []) (A := A) (Z := Z) (H0 := s.heap) (fun M' ls' c2 s2 => M_15 = M' ∧ lv_has ls' 14 [(12, .int 0), (11, .int 0), (10, .int its), (9, .int own), (6, .ref b2), (5, .ref b1), (4, .ref q_5), (3, .ref q_1), (0, .ref md)] ∧ c2 ≤ 2 ∧ s2 ≤ 20 ∧ ((own = 0 ∨ (none : Option Nat) ≠ none) ∧ (its = 0 ∨ (none : Option Nat) ≠ none))) (fun kk9 => ?_) (fun M' ls H locs cells2 slots2 hI9 hM hS => ?_)
      · skip
        refine lv_if_eq (tgt := 99) hx hb dX2_sameRows_91 (by decide) (fun c_23 => ?_) (fun c_23 => ?_)
        · skip
          refine lv_iload hx hb dX2_sameRows_99 (lv_at hl 2 rfl) ?_
          refine lv_if_eq (tgt := 119) hx hb dX2_sameRows_101 (by decide) (fun c_24 => ?_) (fun c_24 => ?_)
          · skip
            exact kk9 _ _ _ _ _ _ ⟨rfl, lv_sub hl [0, 1, 2, 3, 6, 7, 8, 9, 10] rfl, by (try dsimp only); omega, by (try dsimp only); omega, by simp [c_23, c_24]⟩ hM hS
          · skip
            refine lv_iload hx hb dX2_sameRows_104 (lv_at hl 1 rfl) ?_
            refine lv_if_ne (tgt := 119) hx hb dX2_sameRows_106 (by decide) (fun h9 => absurd (by decide) h9) (fun _ => ?_)
            have hC9 : ¬ ((own = 0 ∨ (none : Option Nat) ≠ none) ∧ (its = 0 ∨ (none : Option Nat) ≠ none)) := by simp [c_23, c_24]
            rw [if_pos hC9] at hr9
            refine mm_new (D := Z.1) (ci := 21) (fs := mm_f0X26) (C := RX26) (T := TX26) (N := 7) hx hb hts in_X26 tyX26 tyX26_ok hown (hts _ q2492) (hts _ q2530) (hts _ q99) hE.1 hM hS hA mm_cX26 mm_dfX26 (by (try dsimp only); omega) (by (try dsimp only); omega) dX2_sameRows_109 (fun q_26 H nq_25 hM hS => ?_)
            have hM : mm_P Z.1 mm_cl A (mm_U M_15 q_26 (.inr (21, [.null, .null, .null, .null, .null, .int 0, .int 0]))) H := hM
            have ne_27 : b1 ≠ q_26 := (mm_neN hz1 nq_25)
            have ne_28 : b2 ≠ q_26 := (mm_neN hz2 nq_25)
            have hc_29 : (mm_U M_15 q_26 (.inr (21, [.null, .null, .null, .null, .null, .int 0, .int 0]))) q_26 = some (.inr (21, [.null, .null, .null, .null, .null, .int 0, .int 0])) := mm_U_eq
            have hc_30 : (mm_U M_15 q_26 (.inr (21, [.null, .null, .null, .null, .null, .int 0, .int 0]))) b1 = some (.inr (22, [.int 1, .null, .int 0, .null, .null, .int 0, .int (mm_b false)])) := (mm_U_ne ne_27).trans hz1
            have hc_31 : (mm_U M_15 q_26 (.inr (21, [.null, .null, .null, .null, .null, .int 0, .int 0]))) b2 = some (.inr (22, [.int 1, .null, .int 0, .null, .null, .int 0, .int (mm_b false)])) := (mm_U_ne ne_28).trans hz2
            obtain ⟨M_32, eM_32⟩ : ∃ z, z = mm_U M_15 q_26 (.inr (21, [.null, .null, .null, .null, .null, .int 0, .int 0])) := ⟨_, rfl⟩
            rw [← eM_32] at hM hc_30 hc_31 hc_29
            refine lv_dup hx hb dX2_sameRows_112 rfl ?_
            refine lv_bipush (v := 6) hx hb dX2_sameRows_113 (by decide) ?_
            refine mm_callI (As := [.int 6]) (rest := [.ref q_26]) ⟨hx, hb, hml, hown, hts⟩ hE hST hA (c_X26_init l Z (er := 6) hc_29) (cwI (maxL := 2) 1 hts (lw_meth q2540) rfl rfl rfl (hts _ q99) (hts _ q2538) (hts _ q2539) rfl (by decide +kernel) ⟨(by (try dsimp only); omega), (by (try dsimp only); omega)⟩) hM hS rfl hl.1 (Nat.le_of_ble_eq_true rfl) dX2_sameRows_115 rfl ⟨(by (try dsimp only); omega), (by (try dsimp only); omega)⟩ (fun _ _ _ _ _ _ h9 => h9.elim) (fun v_33 M_34 H locs hp_35 hM hS => ?_)
            obtain ⟨rfl, eM_34⟩ := hp_35
            rw [eM_34] at hM
            have hc_36 : (mm_U M_32 q_26 (.inr (21, [.null, .null, .null, .null, .null, .int 0, .int 6]))) q_26 = some (.inr (21, [.null, .null, .null, .null, .null, .int 0, .int 6])) := mm_U_eq
            have hc_37 : (mm_U M_32 q_26 (.inr (21, [.null, .null, .null, .null, .null, .int 0, .int 6]))) b1 = some (.inr (22, [.int 1, .null, .int 0, .null, .null, .int 0, .int (mm_b false)])) := (mm_U_ne ne_27).trans hc_30
            have hc_38 : (mm_U M_32 q_26 (.inr (21, [.null, .null, .null, .null, .null, .int 0, .int 6]))) b2 = some (.inr (22, [.int 1, .null, .int 0, .null, .null, .int 0, .int (mm_b false)])) := (mm_U_ne ne_28).trans hc_31
            obtain ⟨M_39, eM_39⟩ : ∃ z, z = mm_U M_32 q_26 (.inr (21, [.null, .null, .null, .null, .null, .int 0, .int 6])) := ⟨_, rfl⟩
            rw [← eM_39] at hM hc_37 hc_38 hc_36
            exact mm_athrowD hx hb htab hlk hE hM hS hc_36 mm_cX26 ⟨6, (Option.some.inj hr9).symm, (mX.of ⟨rfl, nq_25, by subst eM_39 eM_32 eM_10 eM_4; simp only [mm_U_U]⟩).after hex3.mK⟩ dX2_sameRows_118 (by (try dsimp only); omega) (by (try dsimp only); omega)
        · skip
          refine lv_iload hx hb dX2_sameRows_94 (lv_at hl 0 rfl) ?_
          refine lv_if_eq (tgt := 109) hx hb dX2_sameRows_96 (by decide) (fun _ => ?_) (fun h9 => absurd (by decide) h9)
          have hC9 : ¬ ((own = 0 ∨ (none : Option Nat) ≠ none) ∧ (its = 0 ∨ (none : Option Nat) ≠ none)) := by simp [c_23]
          rw [if_pos hC9] at hr9
          refine mm_new (D := Z.1) (ci := 21) (fs := mm_f0X26) (C := RX26) (T := TX26) (N := 7) hx hb hts in_X26 tyX26 tyX26_ok hown (hts _ q2492) (hts _ q2530) (hts _ q99) hE.1 hM hS hA mm_cX26 mm_dfX26 (by (try dsimp only); omega) (by (try dsimp only); omega) dX2_sameRows_109 (fun q_25 H nq_24 hM hS => ?_)
          have hM : mm_P Z.1 mm_cl A (mm_U M_15 q_25 (.inr (21, [.null, .null, .null, .null, .null, .int 0, .int 0]))) H := hM
          have ne_26 : b1 ≠ q_25 := (mm_neN hz1 nq_24)
          have ne_27 : b2 ≠ q_25 := (mm_neN hz2 nq_24)
          have hc_28 : (mm_U M_15 q_25 (.inr (21, [.null, .null, .null, .null, .null, .int 0, .int 0]))) q_25 = some (.inr (21, [.null, .null, .null, .null, .null, .int 0, .int 0])) := mm_U_eq
          have hc_29 : (mm_U M_15 q_25 (.inr (21, [.null, .null, .null, .null, .null, .int 0, .int 0]))) b1 = some (.inr (22, [.int 1, .null, .int 0, .null, .null, .int 0, .int (mm_b false)])) := (mm_U_ne ne_26).trans hz1
          have hc_30 : (mm_U M_15 q_25 (.inr (21, [.null, .null, .null, .null, .null, .int 0, .int 0]))) b2 = some (.inr (22, [.int 1, .null, .int 0, .null, .null, .int 0, .int (mm_b false)])) := (mm_U_ne ne_27).trans hz2
          obtain ⟨M_31, eM_31⟩ : ∃ z, z = mm_U M_15 q_25 (.inr (21, [.null, .null, .null, .null, .null, .int 0, .int 0])) := ⟨_, rfl⟩
          rw [← eM_31] at hM hc_29 hc_30 hc_28
          refine lv_dup hx hb dX2_sameRows_112 rfl ?_
          refine lv_bipush (v := 6) hx hb dX2_sameRows_113 (by decide) ?_
          refine mm_callI (As := [.int 6]) (rest := [.ref q_25]) ⟨hx, hb, hml, hown, hts⟩ hE hST hA (c_X26_init l Z (er := 6) hc_28) (cwI (maxL := 2) 1 hts (lw_meth q2540) rfl rfl rfl (hts _ q99) (hts _ q2538) (hts _ q2539) rfl (by decide +kernel) ⟨(by (try dsimp only); omega), (by (try dsimp only); omega)⟩) hM hS rfl hl.1 (Nat.le_of_ble_eq_true rfl) dX2_sameRows_115 rfl ⟨(by (try dsimp only); omega), (by (try dsimp only); omega)⟩ (fun _ _ _ _ _ _ h9 => h9.elim) (fun v_32 M_33 H locs hp_34 hM hS => ?_)
          obtain ⟨rfl, eM_33⟩ := hp_34
          rw [eM_33] at hM
          have hc_35 : (mm_U M_31 q_25 (.inr (21, [.null, .null, .null, .null, .null, .int 0, .int 6]))) q_25 = some (.inr (21, [.null, .null, .null, .null, .null, .int 0, .int 6])) := mm_U_eq
          have hc_36 : (mm_U M_31 q_25 (.inr (21, [.null, .null, .null, .null, .null, .int 0, .int 6]))) b1 = some (.inr (22, [.int 1, .null, .int 0, .null, .null, .int 0, .int (mm_b false)])) := (mm_U_ne ne_26).trans hc_29
          have hc_37 : (mm_U M_31 q_25 (.inr (21, [.null, .null, .null, .null, .null, .int 0, .int 6]))) b2 = some (.inr (22, [.int 1, .null, .int 0, .null, .null, .int 0, .int (mm_b false)])) := (mm_U_ne ne_27).trans hc_30
          obtain ⟨M_38, eM_38⟩ : ∃ z, z = mm_U M_31 q_25 (.inr (21, [.null, .null, .null, .null, .null, .int 0, .int 6])) := ⟨_, rfl⟩
          rw [← eM_38] at hM hc_36 hc_37 hc_35
          exact mm_athrowD hx hb htab hlk hE hM hS hc_35 mm_cX26 ⟨6, (Option.some.inj hr9).symm, (mX.of ⟨rfl, nq_24, by subst eM_38 eM_31 eM_10 eM_4; simp only [mm_U_U]⟩).after hex3.mK⟩ dX2_sameRows_118 (by (try dsimp only); omega) (by (try dsimp only); omega)
      obtain ⟨rfl, hl, hcc9, hss9, hC1⟩ := hI9
      rw [if_neg (not_not_intro hC1)] at hr9
      refine mm_cutM (pc2 := 150) (rest2 := []) (A := A) (Z := Z) (H0 := s.heap) (fun M' ls' c2 s2 => M_15 = M' ∧ lv_has ls' 14 [(12, .int 0), (11, .int 0), (10, .int its), (9, .int own), (6, .ref b2), (5, .ref b1), (4, .ref q_5), (3, .ref q_1), (0, .ref md)] ∧ c2 ≤ 2 ∧ s2 ≤ 20 ∧ ((own = 0 ∨ ∀ w9, (none : Option Nat) = some w9 → S.2.2.2.1 w9 &&& own = 0) ∧ (its = 0 ∨ ∀ v9, (none : Option Nat) = some v9 → S.2.2.2.1 v9 &&& its = 0))) (fun kk9 => ?_) (fun M' ls H locs cells2 slots2 hI9 hM hS => ?_)
      · skip
        refine lv_iload hx hb dX2_sameRows_119 (lv_at hl 3 rfl) ?_
        refine lv_aload hx hb dX2_sameRows_121 (lv_at hl 4 rfl) ?_
        refine va_get (D := Z.1) (ci := 22) (v := .int 0) (C := RX27) (T := TX27) (N := 7) hx hb hts in_X27 hown hE.1 (hM.at hz2) 0 rfl mm_cX27 5 (by decide) (hts _ q2583) (fun _ h9 => h9) rfl dX2_sameRows_123 ?_
        refine lv_iand hx hb dX2_sameRows_126 ?_
        rw [show (own &&& 0 : Int32) = 0 from Int32.and_zero]
        refine lv_if_ne (tgt := 141) hx hb dX2_sameRows_127 (by decide) (fun h9 => absurd (by decide) h9) (fun _ => ?_)
        refine lv_iload hx hb dX2_sameRows_130 (lv_at hl 2 rfl) ?_
        refine lv_aload hx hb dX2_sameRows_132 (lv_at hl 5 rfl) ?_
        refine va_get (D := Z.1) (ci := 22) (v := .int 0) (C := RX27) (T := TX27) (N := 7) hx hb hts in_X27 hown hE.1 (hM.at hz1) 0 rfl mm_cX27 5 (by decide) (hts _ q2583) (fun _ h9 => h9) rfl dX2_sameRows_134 ?_
        refine lv_iand hx hb dX2_sameRows_137 ?_
        rw [show (its &&& 0 : Int32) = 0 from Int32.and_zero]
        refine lv_if_eq (tgt := 150) hx hb dX2_sameRows_138 (by decide) (fun _ => ?_) (fun h9 => absurd (by decide) h9)
        exact kk9 _ _ _ _ _ _ ⟨rfl, lv_sub hl [0, 1, 2, 3, 4, 5, 6, 7, 8] rfl, by (try dsimp only); omega, by (try dsimp only); omega, Or.inr (fun w9 e9 => by cases e9), Or.inr (fun w9 e9 => by cases e9)⟩ hM hS
      obtain ⟨rfl, hl, hcc9, hss9, hC2⟩ := hI9
      rw [if_neg (not_not_intro hC2)] at hr9
      have hbb9 : True := trivial
      refine lv_aload hx hb dX2_sameRows_150 (lv_at hl 5 rfl) ?_
      refine lv_aload hx hb dX2_sameRows_152 (lv_at hl 4 rfl) ?_
      refine lv_acmp_ne (rx := (some b1)) (ry := (some b2)) (tgt := 174) hx hb dX2_sameRows_154 (by decide) (fun c_23 => ?_) (fun c_23 => ?_)
      · skip
        have hbn : b1 ≠ b2 := fun h9 => by first | exact c_23 h9 | exact c_23 (congrArg some h9)
        refine lv_aload hx hb dX2_sameRows_174 (lv_at hl 5 rfl) ?_
        refine lv_aload hx hb dX2_sameRows_176 (lv_at hl 4 rfl) ?_
        refine lv_acmp_eq (rx := (some b1)) (ry := (some b2)) (tgt := 327) hx hb dX2_sameRows_178 (by decide) (fun c_24 => ?_) (fun c_24 => ?_)
        · skip
          exact absurd (Option.some.inj c_24) hbn
        · skip
          refine mm_new (D := Z.1) (ci := 22) (fs := mm_f0X27) (C := RX27) (T := TX27) (N := 7) hx hb hts in_X27 tyX27 tyX27_ok hown (hts _ q2561) (hts _ q2571) (hts _ q100) hE.1 hM hS hA mm_cX27 mm_dfX27 (by (try dsimp only); omega) (by (try dsimp only); omega) dX2_sameRows_181 (fun q_26 H nq_25 hM hS => ?_)
          have hM : mm_P Z.1 mm_cl A (mm_U M_15 q_26 (.inr (22, [.int 0, .null, .int 0, .null, .null, .int 0, .int 0]))) H := hM
          have ne_27 : b1 ≠ q_26 := (mm_neN hz1 nq_25)
          have ne_28 : b2 ≠ q_26 := (mm_neN hz2 nq_25)
          have hc_29 : (mm_U M_15 q_26 (.inr (22, [.int 0, .null, .int 0, .null, .null, .int 0, .int 0]))) q_26 = some (.inr (22, [.int 0, .null, .int 0, .null, .null, .int 0, .int 0])) := mm_U_eq
          have hc_30 : (mm_U M_15 q_26 (.inr (22, [.int 0, .null, .int 0, .null, .null, .int 0, .int 0]))) b1 = some (.inr (22, [.int 1, .null, .int 0, .null, .null, .int 0, .int (mm_b false)])) := (mm_U_ne ne_27).trans hz1
          have hc_31 : (mm_U M_15 q_26 (.inr (22, [.int 0, .null, .int 0, .null, .null, .int 0, .int 0]))) b2 = some (.inr (22, [.int 1, .null, .int 0, .null, .null, .int 0, .int (mm_b false)])) := (mm_U_ne ne_28).trans hz2
          obtain ⟨M_32, eM_32⟩ : ∃ z, z = mm_U M_15 q_26 (.inr (22, [.int 0, .null, .int 0, .null, .null, .int 0, .int 0])) := ⟨_, rfl⟩
          rw [← eM_32] at hM hc_30 hc_31 hc_29
          refine lv_dup hx hb dX2_sameRows_184 rfl ?_
          refine lv_iconst (v := 1) hx hb dX2_sameRows_185 (by decide) ?_
          refine mm_callI (As := [.int 1]) (rest := [.ref q_26]) ⟨hx, hb, hml, hown, hts⟩ hE hST hA (c_X27_init l Z (x1 := 1) hc_29) (cwI (maxL := 2) 1 hts (lw_meth q2574) rfl rfl rfl (hts _ q100) (hts _ q2572) (hts _ q2573) rfl (by decide +kernel) ⟨(by (try dsimp only); omega), (by (try dsimp only); omega)⟩) hM hS rfl hl.1 (Nat.le_of_ble_eq_true rfl) dX2_sameRows_186 rfl ⟨(by (try dsimp only); omega), (by (try dsimp only); omega)⟩ (fun _ _ _ _ _ _ h9 => h9.elim) (fun v_33 M_34 H locs hp_35 hM hS => ?_)
          obtain ⟨rfl, eM_34⟩ := hp_35
          rw [eM_34] at hM
          have hc_36 : (mm_U M_32 q_26 (.inr (22, [.int 1, .null, .int 0, .null, .null, .int 0, .int 0]))) q_26 = some (.inr (22, [.int 1, .null, .int 0, .null, .null, .int 0, .int 0])) := mm_U_eq
          have hc_37 : (mm_U M_32 q_26 (.inr (22, [.int 1, .null, .int 0, .null, .null, .int 0, .int 0]))) b1 = some (.inr (22, [.int 1, .null, .int 0, .null, .null, .int 0, .int (mm_b false)])) := (mm_U_ne ne_27).trans hc_30
          have hc_38 : (mm_U M_32 q_26 (.inr (22, [.int 1, .null, .int 0, .null, .null, .int 0, .int 0]))) b2 = some (.inr (22, [.int 1, .null, .int 0, .null, .null, .int 0, .int (mm_b false)])) := (mm_U_ne ne_28).trans hc_31
          obtain ⟨M_39, eM_39⟩ : ∃ z, z = mm_U M_32 q_26 (.inr (22, [.int 1, .null, .int 0, .null, .null, .int 0, .int 0])) := ⟨_, rfl⟩
          rw [← eM_39] at hM hc_37 hc_38 hc_36
          have hexz : mm_Ext M_15 M_39 := by subst eM_39 eM_32; rw [mm_U_U]; exact mm_Ext.U nq_25
          have hzz : M_39 q_26 = some (mr_E 1 none 0 none none 0 false) := hc_36
          have hCz := hC3.ext hexz
          have hSz := hSt3.ext hC3 hexz
          have hmdz := hexz.at hmd3
          have hnz : ∀ z, M z ≠ none → mnext M_39 z = mnext M_15 z := fun z hz => by unfold mnext; rw [hexz z (hex3.mK.hasN hz)]
          have hmdq := hmdz
          refine lv_astore hx hb dX2_sameRows_189 hl (by decide) rfl (fun ls hl => ?_)
          replace hl : lv_has ls 14 [(13, .ref q_26), (12, .int 0), (11, .int 0), (10, .int its), (9, .int own), (6, .ref b2), (5, .ref b1), (4, .ref q_5), (3, .ref q_1), (0, .ref md)] := hl
          refine lv_iload hx hb dX2_sameRows_191 (lv_at hl 2 rfl) ?_
          refine lv_if_eq (tgt := 243) hx hb dX2_sameRows_193 (by decide) (fun _ => ?_) (fun h9 => absurd (by decide) h9)
          refine lv_iload hx hb dX2_sameRows_243 (lv_at hl 1 rfl) ?_
          refine lv_if_eq (tgt := 259) hx hb dX2_sameRows_245 (by decide) (fun _ => ?_) (fun h9 => absurd (by decide) h9)
          refine lv_iload hx hb dX2_sameRows_259 (lv_at hl 2 rfl) ?_
          refine lv_if_eq (tgt := 276) hx hb dX2_sameRows_261 (by decide) (fun _ => ?_) (fun h9 => absurd (by decide) h9)
          refine lv_aload_n hx hb dX2_sameRows_276 rfl (lv_at hl 9 rfl) ?_
          refine lv_iload hx hb dX2_sameRows_277 (lv_at hl 1 rfl) ?_
          refine lv_if_eq (tgt := 294) hx hb dX2_sameRows_279 (by decide) (fun _ => ?_) (fun h9 => absurd (by decide) h9)
          refine lv_iconst (v := 0) hx hb dX2_sameRows_294 (by decide) ?_
          refine lv_aload_n hx hb dX2_sameRows_295 rfl (lv_at hl 8 rfl) ?_
          refine lv_iload hx hb dX2_sameRows_296 (lv_at hl 4 rfl) ?_
          refine mm_callVD (As := [.int 0, .ref q_1, .int own]) (rest := []) ⟨hx, hb, hml, hown, hts⟩ hE hST hA (d_X2_comparesAll l Z (S := S) (iz := false) (q := q_1) (st9 := own) (g := g1) (f := y1) (er := .natCast 0) (T := uap S.2.1 (usome g1 own (.natCast 0) 10)) (Hh := Hh) hmdz hSz (by omega) hCz ((hexz.mK).atA hA31) (hX31.K hexz.mK) hs1 rfl rfl (fun h9 => by cases h9) (hX31.hh hC3 hB3 hH)) (cwV 3 hts (lw_V q2689 q2691 qs42 q54 q2692) rfl rfl rfl (by decide +kernel) ⟨(by (try dsimp only); omega), (by (try dsimp only); omega)⟩) hM hS mm_cX2 hmdz rfl hl.1 (Nat.le_of_ble_eq_true rfl) dX2_sameRows_298 rfl ⟨(by (try dsimp only); omega), (by (try dsimp only); omega)⟩ (fun E ce q M9 H1 locs1 hp9 hM9 hS9 hce hcv hcl => by cases hp9.1) (fun v_40 M_41 n_43 k_44 H locs hp_42 hM hS => ?_)
          obtain ⟨rfl, rfl, rfl, -, hKc1, hCc1, hnc1, hmdc1, hStc1⟩ := hp_42
          have hKd1 := (hexz.mK).trans hKc1
          have hnd1 : ∀ z, M z ≠ none → mnext M_41 z = mnext M_15 z := fun z hz => by rw [hnc1 z ((hexz.mK).hasN (hex3.mK.hasN hz)), hnz z hz]
          refine lv_aload_n hx hb dX2_sameRows_301 rfl (lv_at hl 9 rfl) ?_
          refine lv_iload hx hb dX2_sameRows_302 (lv_at hl 2 rfl) ?_
          refine lv_if_eq (tgt := 319) hx hb dX2_sameRows_304 (by decide) (fun _ => ?_) (fun h9 => absurd (by decide) h9)
          refine lv_iconst (v := 0) hx hb dX2_sameRows_319 (by decide) ?_
          refine lv_aload hx hb dX2_sameRows_320 (lv_at hl 7 rfl) ?_
          refine lv_iload hx hb dX2_sameRows_322 (lv_at hl 3 rfl) ?_
          refine mm_callVD (As := [.int 0, .ref q_5, .int its]) (rest := []) ⟨hx, hb, hml, hown, hts⟩ hE hST hA (d_X2_comparesAll l Z (S := S) (iz := false) (q := q_5) (st9 := its) (g := g2) (f := y2) (er := .natCast 0) (T := uap S.2.1 (usome g2 its (.natCast 0) 10)) (Hh := Hh) hmdc1 hStc1 (by omega) hCc1 ((hKd1).atA hA32) (hX32.K hKd1) hs2 rfl rfl (fun h9 => by cases h9) (hX32.hh hC3 hB3 hH)) (cwV 3 hts (lw_V q2689 q2691 qs42 q54 q2692) rfl rfl rfl (by decide +kernel) ⟨(by (try dsimp only); omega), (by (try dsimp only); omega)⟩) hM hS mm_cX2 hmdc1 rfl hl.1 (Nat.le_of_ble_eq_true rfl) dX2_sameRows_324 rfl ⟨(by (try dsimp only); omega), (by (try dsimp only); omega)⟩ (fun E ce q M9 H1 locs1 hp9 hM9 hS9 hce hcv hcl => by cases hp9.1) (fun v_45 M_46 n_48 k_49 H locs hp_47 hM hS => ?_)
          obtain ⟨rfl, rfl, rfl, -, hKc2, hCc2, hnc2, hmdc2, hStc2⟩ := hp_47
          have hKd2 := (hKd1).trans hKc2
          have hnd2 : ∀ z, M z ≠ none → mnext M_46 z = mnext M_15 z := fun z hz => by rw [hnc2 z ((hKd1).hasN (hex3.mK.hasN hz)), hnd1 z hz]
          have hzz9 : ∀ z, M z ≠ none → mnext M z = none → mnext M_46 z ≠ none → mVar M z := fun z hz1 hz2 hz3 => absurd (by rw [hnd2 z hz1]; unfold mnext; rw [hex3 z hz1]; exact hz2) hz3
          have hph9 : mPhi M_46 L = mPhi M L := by rw [← hP3]; unfold mPhi; exact List.countP_congr fun z hz => by obtain ⟨m9, t9, h9⟩ := hC.2.2.1 z hz; have hz1 := h9.has; rw [hnd2 z hz1]
          refine kk _ ls _ _ _ _ ⟨lv_sub hl [9, 8, 7] rfl, S, L, vr, D, kn, ((k + 1) + 1), by simpa [to_b] using hr9, uGo.rf hG, hKd2, hCc2, fun _ h => h, fun _ h => ⟨h, rfl⟩, Nat.le_refl _, fun v9 => ⟨Or.inl, fun h9 => h9.elim id (fun h8 => absurd h8.2 (Nat.not_lt.2 h8.1))⟩, mPd.rf _ _, Nat.le_of_eq hph9, mNw.rf _ _, by (try dsimp only); omega, by (try dsimp only); omega, by omega, hmdc2, hStc2, by omega, hzz9⟩ hM hS
      · skip
        have hbe : b1 = b2 := by first | exact Option.some.inj c_23 | exact c_23
        refine lv_iload hx hb dX2_sameRows_157 (lv_at hl 3 rfl) ?_
        refine lv_iload hx hb dX2_sameRows_159 (lv_at hl 2 rfl) ?_
        refine lv_ior hx hb dX2_sameRows_161 ?_
        have ho9 : own = 0 := hC1.1.resolve_right (fun h => h rfl)
        have hi9' : its = 0 := hC1.2.resolve_right (fun h => h rfl)
        rw [show (own ||| its : Int32) = 0 from by rw [ho9, hi9']; rfl]
        refine lv_if_eq (tgt := 174) hx hb dX2_sameRows_162 (by decide) (fun _ => ?_) (fun h9 => absurd (by decide) h9)
        refine lv_aload hx hb dX2_sameRows_174 (lv_at hl 5 rfl) ?_
        refine lv_aload hx hb dX2_sameRows_176 (lv_at hl 4 rfl) ?_
        refine lv_acmp_eq (rx := (some b1)) (ry := (some b2)) (tgt := 327) hx hb dX2_sameRows_178 (by decide) (fun c_24 => ?_) (fun c_24 => ?_)
        rotate_left
        · skip
          exact absurd (congrArg some hbe) c_24
        · skip
          have hzz9 : ∀ z, M z ≠ none → mnext M z = none → mnext M_15 z ≠ none → mVar M z := fun z hz1 hz2 hz3 => absurd (by unfold mnext; rw [hex3 z hz1]; exact hz2) hz3
          have hph9 := hP3
          refine kk _ ls _ _ _ _ ⟨lv_sub hl [8, 7, 6] rfl, S, L, vr, D, kn, k, by simpa [to_b] using hr9, uGo.rf hG, mK.rf _, hC3, fun _ h => h, fun _ h => ⟨h, rfl⟩, Nat.le_refl _, fun v9 => ⟨Or.inl, fun h9 => h9.elim id (fun h8 => absurd h8.2 (Nat.not_lt.2 h8.1))⟩, mPd.rf _ _, Nat.le_of_eq hph9, mNw.rf _ _, by (try dsimp only); omega, by (try dsimp only); omega, by omega, hmd3, hSt3, by omega, hzz9⟩ hM hS
    · skip
      have hz1 := hex3.at hE1
      obtain ⟨hDw, hsw, hbw, hLw, hcw⟩ := hE2
      have hc3w := hex3.at hcw
      refine lv_aload hx hb dX2_sameRows_59 (lv_at hl 5 rfl) ?_
      refine va_get (D := Z.1) (ci := 22) (v := .int 1) (C := RX27) (T := TX27) (N := 7) hx hb hts in_X27 hown hE.1 (hM.at hz1) 0 rfl mm_cX27 0 (by decide) (hts _ q2577) (fun _ h9 => h9) rfl dX2_sameRows_61 ?_
      refine lv_if_ne (tgt := 71) hx hb dX2_sameRows_64 (by decide) (fun _ => ?_) (fun h9 => absurd h9 (by decide))
      refine lv_iconst (v := 0) hx hb dX2_sameRows_71 (by decide) ?_
      refine lv_istore hx hb dX2_sameRows_72 hl (by decide) rfl (fun ls hl => ?_)
      replace hl : lv_has ls 14 [(11, .int 0), (10, .int its), (9, .int own), (8, .int B2), (7, .int B1), (6, .ref b2), (5, .ref b1), (4, .ref q_5), (3, .ref q_1), (0, .ref md), (1, .ref a1), (2, .ref a2)] := hl
      refine lv_aload hx hb dX2_sameRows_74 (lv_at hl 5 rfl) ?_
      refine va_get (D := Z.1) (ci := 22) (v := .int 0) (C := RX27) (T := TX27) (N := 7) hx hb hts in_X27 hown hE.1 (hM.at hc3w) 0 rfl mm_cX27 0 (by decide) (hts _ q2577) (fun _ h9 => h9) rfl dX2_sameRows_76 ?_
      refine lv_if_ne (tgt := 86) hx hb dX2_sameRows_79 (by decide) (fun h9 => absurd (by decide) h9) (fun _ => ?_)
      refine lv_iconst (v := 1) hx hb dX2_sameRows_82 (by decide) ?_
      refine lv_goto (tgt := 87) hx hb dX2_sameRows_83 (by decide) ?_
      refine lv_istore hx hb dX2_sameRows_87 hl (by decide) rfl (fun ls hl => ?_)
      replace hl : lv_has ls 14 [(12, .int 1), (11, .int 0), (10, .int its), (9, .int own), (8, .int B2), (7, .int B1), (6, .ref b2), (5, .ref b1), (4, .ref q_5), (3, .ref q_1), (0, .ref md), (1, .ref a1), (2, .ref a2)] := hl
      refine lv_iload hx hb dX2_sameRows_89 (lv_at hl 3 rfl) ?_
      refine mm_cutM (pc2 := 119) (rest2 := []) (A := A) (Z := Z) (H0 := s.heap) (fun M' ls' c2 s2 => M_15 = M' ∧ lv_has ls' 14 [(12, .int 1), (11, .int 0), (10, .int its), (9, .int own), (6, .ref b2), (5, .ref b1), (4, .ref q_5), (3, .ref q_1), (0, .ref md)] ∧ c2 ≤ 2 ∧ s2 ≤ 20 ∧ ((own = 0 ∨ (some w : Option Nat) ≠ none) ∧ (its = 0 ∨ (none : Option Nat) ≠ none))) (fun kk9 => ?_) (fun M' ls H locs cells2 slots2 hI9 hM hS => ?_)
      · skip
        refine lv_if_eq (tgt := 99) hx hb dX2_sameRows_91 (by decide) (fun c_23 => ?_) (fun c_23 => ?_)
        · skip
          refine lv_iload hx hb dX2_sameRows_99 (lv_at hl 2 rfl) ?_
          refine lv_if_eq (tgt := 119) hx hb dX2_sameRows_101 (by decide) (fun c_24 => ?_) (fun c_24 => ?_)
          · skip
            exact kk9 _ _ _ _ _ _ ⟨rfl, lv_sub hl [0, 1, 2, 3, 6, 7, 8, 9, 10] rfl, by (try dsimp only); omega, by (try dsimp only); omega, by simp [c_23, c_24]⟩ hM hS
          · skip
            refine lv_iload hx hb dX2_sameRows_104 (lv_at hl 1 rfl) ?_
            refine lv_if_ne (tgt := 119) hx hb dX2_sameRows_106 (by decide) (fun h9 => absurd (by decide) h9) (fun _ => ?_)
            have hC9 : ¬ ((own = 0 ∨ (some w : Option Nat) ≠ none) ∧ (its = 0 ∨ (none : Option Nat) ≠ none)) := by simp [c_23, c_24]
            rw [if_pos hC9] at hr9
            refine mm_new (D := Z.1) (ci := 21) (fs := mm_f0X26) (C := RX26) (T := TX26) (N := 7) hx hb hts in_X26 tyX26 tyX26_ok hown (hts _ q2492) (hts _ q2530) (hts _ q99) hE.1 hM hS hA mm_cX26 mm_dfX26 (by (try dsimp only); omega) (by (try dsimp only); omega) dX2_sameRows_109 (fun q_26 H nq_25 hM hS => ?_)
            have hM : mm_P Z.1 mm_cl A (mm_U M_15 q_26 (.inr (21, [.null, .null, .null, .null, .null, .int 0, .int 0]))) H := hM
            have ne_27 : b1 ≠ q_26 := (mm_neN hz1 nq_25)
            have ne_28 : b2 ≠ q_26 := (mm_neN hc3w nq_25)
            have hc_29 : (mm_U M_15 q_26 (.inr (21, [.null, .null, .null, .null, .null, .int 0, .int 0]))) q_26 = some (.inr (21, [.null, .null, .null, .null, .null, .int 0, .int 0])) := mm_U_eq
            have hc_30 : (mm_U M_15 q_26 (.inr (21, [.null, .null, .null, .null, .null, .int 0, .int 0]))) b1 = some (.inr (22, [.int 1, .null, .int 0, .null, .null, .int 0, .int (mm_b false)])) := (mm_U_ne ne_27).trans hz1
            have hc_31 : (mm_U M_15 q_26 (.inr (21, [.null, .null, .null, .null, .null, .int 0, .int 0]))) b2 = some (.inr (22, [.int 0, .null, .int 0, .null, .null, .int (S.2.2.2.1 w), .int (mm_b (S.2.2.1 w))])) := (mm_U_ne ne_28).trans hc3w
            obtain ⟨M_32, eM_32⟩ : ∃ z, z = mm_U M_15 q_26 (.inr (21, [.null, .null, .null, .null, .null, .int 0, .int 0])) := ⟨_, rfl⟩
            rw [← eM_32] at hM hc_30 hc_31 hc_29
            refine lv_dup hx hb dX2_sameRows_112 rfl ?_
            refine lv_bipush (v := 6) hx hb dX2_sameRows_113 (by decide) ?_
            refine mm_callI (As := [.int 6]) (rest := [.ref q_26]) ⟨hx, hb, hml, hown, hts⟩ hE hST hA (c_X26_init l Z (er := 6) hc_29) (cwI (maxL := 2) 1 hts (lw_meth q2540) rfl rfl rfl (hts _ q99) (hts _ q2538) (hts _ q2539) rfl (by decide +kernel) ⟨(by (try dsimp only); omega), (by (try dsimp only); omega)⟩) hM hS rfl hl.1 (Nat.le_of_ble_eq_true rfl) dX2_sameRows_115 rfl ⟨(by (try dsimp only); omega), (by (try dsimp only); omega)⟩ (fun _ _ _ _ _ _ h9 => h9.elim) (fun v_33 M_34 H locs hp_35 hM hS => ?_)
            obtain ⟨rfl, eM_34⟩ := hp_35
            rw [eM_34] at hM
            have hc_36 : (mm_U M_32 q_26 (.inr (21, [.null, .null, .null, .null, .null, .int 0, .int 6]))) q_26 = some (.inr (21, [.null, .null, .null, .null, .null, .int 0, .int 6])) := mm_U_eq
            have hc_37 : (mm_U M_32 q_26 (.inr (21, [.null, .null, .null, .null, .null, .int 0, .int 6]))) b1 = some (.inr (22, [.int 1, .null, .int 0, .null, .null, .int 0, .int (mm_b false)])) := (mm_U_ne ne_27).trans hc_30
            have hc_38 : (mm_U M_32 q_26 (.inr (21, [.null, .null, .null, .null, .null, .int 0, .int 6]))) b2 = some (.inr (22, [.int 0, .null, .int 0, .null, .null, .int (S.2.2.2.1 w), .int (mm_b (S.2.2.1 w))])) := (mm_U_ne ne_28).trans hc_31
            obtain ⟨M_39, eM_39⟩ : ∃ z, z = mm_U M_32 q_26 (.inr (21, [.null, .null, .null, .null, .null, .int 0, .int 6])) := ⟨_, rfl⟩
            rw [← eM_39] at hM hc_37 hc_38 hc_36
            exact mm_athrowD hx hb htab hlk hE hM hS hc_36 mm_cX26 ⟨6, (Option.some.inj hr9).symm, (mX.of ⟨rfl, nq_25, by subst eM_39 eM_32 eM_10 eM_4; simp only [mm_U_U]⟩).after hex3.mK⟩ dX2_sameRows_118 (by (try dsimp only); omega) (by (try dsimp only); omega)
        · skip
          refine lv_iload hx hb dX2_sameRows_94 (lv_at hl 0 rfl) ?_
          refine lv_if_eq (tgt := 109) hx hb dX2_sameRows_96 (by decide) (fun h9 => absurd h9 (by decide)) (fun _ => ?_)
          refine lv_iload hx hb dX2_sameRows_99 (lv_at hl 2 rfl) ?_
          refine lv_if_eq (tgt := 119) hx hb dX2_sameRows_101 (by decide) (fun c_24 => ?_) (fun c_24 => ?_)
          · skip
            exact kk9 _ _ _ _ _ _ ⟨rfl, lv_sub hl [0, 1, 2, 3, 6, 7, 8, 9, 10] rfl, by (try dsimp only); omega, by (try dsimp only); omega, by simp [c_23, c_24]⟩ hM hS
          · skip
            refine lv_iload hx hb dX2_sameRows_104 (lv_at hl 1 rfl) ?_
            refine lv_if_ne (tgt := 119) hx hb dX2_sameRows_106 (by decide) (fun h9 => absurd (by decide) h9) (fun _ => ?_)
            have hC9 : ¬ ((own = 0 ∨ (some w : Option Nat) ≠ none) ∧ (its = 0 ∨ (none : Option Nat) ≠ none)) := by simp [c_23, c_24]
            rw [if_pos hC9] at hr9
            refine mm_new (D := Z.1) (ci := 21) (fs := mm_f0X26) (C := RX26) (T := TX26) (N := 7) hx hb hts in_X26 tyX26 tyX26_ok hown (hts _ q2492) (hts _ q2530) (hts _ q99) hE.1 hM hS hA mm_cX26 mm_dfX26 (by (try dsimp only); omega) (by (try dsimp only); omega) dX2_sameRows_109 (fun q_26 H nq_25 hM hS => ?_)
            have hM : mm_P Z.1 mm_cl A (mm_U M_15 q_26 (.inr (21, [.null, .null, .null, .null, .null, .int 0, .int 0]))) H := hM
            have ne_27 : b1 ≠ q_26 := (mm_neN hz1 nq_25)
            have ne_28 : b2 ≠ q_26 := (mm_neN hc3w nq_25)
            have hc_29 : (mm_U M_15 q_26 (.inr (21, [.null, .null, .null, .null, .null, .int 0, .int 0]))) q_26 = some (.inr (21, [.null, .null, .null, .null, .null, .int 0, .int 0])) := mm_U_eq
            have hc_30 : (mm_U M_15 q_26 (.inr (21, [.null, .null, .null, .null, .null, .int 0, .int 0]))) b1 = some (.inr (22, [.int 1, .null, .int 0, .null, .null, .int 0, .int (mm_b false)])) := (mm_U_ne ne_27).trans hz1
            have hc_31 : (mm_U M_15 q_26 (.inr (21, [.null, .null, .null, .null, .null, .int 0, .int 0]))) b2 = some (.inr (22, [.int 0, .null, .int 0, .null, .null, .int (S.2.2.2.1 w), .int (mm_b (S.2.2.1 w))])) := (mm_U_ne ne_28).trans hc3w
            obtain ⟨M_32, eM_32⟩ : ∃ z, z = mm_U M_15 q_26 (.inr (21, [.null, .null, .null, .null, .null, .int 0, .int 0])) := ⟨_, rfl⟩
            rw [← eM_32] at hM hc_30 hc_31 hc_29
            refine lv_dup hx hb dX2_sameRows_112 rfl ?_
            refine lv_bipush (v := 6) hx hb dX2_sameRows_113 (by decide) ?_
            refine mm_callI (As := [.int 6]) (rest := [.ref q_26]) ⟨hx, hb, hml, hown, hts⟩ hE hST hA (c_X26_init l Z (er := 6) hc_29) (cwI (maxL := 2) 1 hts (lw_meth q2540) rfl rfl rfl (hts _ q99) (hts _ q2538) (hts _ q2539) rfl (by decide +kernel) ⟨(by (try dsimp only); omega), (by (try dsimp only); omega)⟩) hM hS rfl hl.1 (Nat.le_of_ble_eq_true rfl) dX2_sameRows_115 rfl ⟨(by (try dsimp only); omega), (by (try dsimp only); omega)⟩ (fun _ _ _ _ _ _ h9 => h9.elim) (fun v_33 M_34 H locs hp_35 hM hS => ?_)
            obtain ⟨rfl, eM_34⟩ := hp_35
            rw [eM_34] at hM
            have hc_36 : (mm_U M_32 q_26 (.inr (21, [.null, .null, .null, .null, .null, .int 0, .int 6]))) q_26 = some (.inr (21, [.null, .null, .null, .null, .null, .int 0, .int 6])) := mm_U_eq
            have hc_37 : (mm_U M_32 q_26 (.inr (21, [.null, .null, .null, .null, .null, .int 0, .int 6]))) b1 = some (.inr (22, [.int 1, .null, .int 0, .null, .null, .int 0, .int (mm_b false)])) := (mm_U_ne ne_27).trans hc_30
            have hc_38 : (mm_U M_32 q_26 (.inr (21, [.null, .null, .null, .null, .null, .int 0, .int 6]))) b2 = some (.inr (22, [.int 0, .null, .int 0, .null, .null, .int (S.2.2.2.1 w), .int (mm_b (S.2.2.1 w))])) := (mm_U_ne ne_28).trans hc_31
            obtain ⟨M_39, eM_39⟩ : ∃ z, z = mm_U M_32 q_26 (.inr (21, [.null, .null, .null, .null, .null, .int 0, .int 6])) := ⟨_, rfl⟩
            rw [← eM_39] at hM hc_37 hc_38 hc_36
            exact mm_athrowD hx hb htab hlk hE hM hS hc_36 mm_cX26 ⟨6, (Option.some.inj hr9).symm, (mX.of ⟨rfl, nq_25, by subst eM_39 eM_32 eM_10 eM_4; simp only [mm_U_U]⟩).after hex3.mK⟩ dX2_sameRows_118 (by (try dsimp only); omega) (by (try dsimp only); omega)
      obtain ⟨rfl, hl, hcc9, hss9, hC1⟩ := hI9
      rw [if_neg (not_not_intro hC1)] at hr9
      refine mm_cutM (pc2 := 150) (rest2 := []) (A := A) (Z := Z) (H0 := s.heap) (fun M' ls' c2 s2 => M_15 = M' ∧ lv_has ls' 14 [(12, .int 1), (11, .int 0), (10, .int its), (9, .int own), (6, .ref b2), (5, .ref b1), (4, .ref q_5), (3, .ref q_1), (0, .ref md)] ∧ c2 ≤ 2 ∧ s2 ≤ 20 ∧ ((own = 0 ∨ ∀ w9, (some w : Option Nat) = some w9 → S.2.2.2.1 w9 &&& own = 0) ∧ (its = 0 ∨ ∀ v9, (none : Option Nat) = some v9 → S.2.2.2.1 v9 &&& its = 0))) (fun kk9 => ?_) (fun M' ls H locs cells2 slots2 hI9 hM hS => ?_)
      · skip
        refine lv_iload hx hb dX2_sameRows_119 (lv_at hl 3 rfl) ?_
        refine lv_aload hx hb dX2_sameRows_121 (lv_at hl 4 rfl) ?_
        refine va_get (D := Z.1) (ci := 22) (v := .int (S.2.2.2.1 w)) (C := RX27) (T := TX27) (N := 7) hx hb hts in_X27 hown hE.1 (hM.at hc3w) 0 rfl mm_cX27 5 (by decide) (hts _ q2583) (fun _ h9 => h9) rfl dX2_sameRows_123 ?_
        refine lv_iand hx hb dX2_sameRows_126 ?_
        rw [show (own &&& (S.2.2.2.1 w) : Int32) = (S.2.2.2.1 w) &&& own from Int32.and_comm _ _]
        refine lv_if_ne (tgt := 141) hx hb dX2_sameRows_127 (by decide) (fun c_23 => ?_) (fun c_23 => ?_)
        · skip
          have hC9 : ¬ ((own = 0 ∨ ∀ w9, (some w : Option Nat) = some w9 → S.2.2.2.1 w9 &&& own = 0) ∧ (its = 0 ∨ ∀ v9, (none : Option Nat) = some v9 → S.2.2.2.1 v9 &&& its = 0)) := by
            intro h9
            rcases h9.1 with h8 | h8
            · exact c_23 (by rw [h8]; exact Int32.and_zero)
            · exact c_23 (h8 w rfl)
          rw [if_pos hC9] at hr9
          refine mm_new (D := Z.1) (ci := 21) (fs := mm_f0X26) (C := RX26) (T := TX26) (N := 7) hx hb hts in_X26 tyX26 tyX26_ok hown (hts _ q2492) (hts _ q2530) (hts _ q99) hE.1 hM hS hA mm_cX26 mm_dfX26 (by (try dsimp only); omega) (by (try dsimp only); omega) dX2_sameRows_141 (fun q_25 H nq_24 hM hS => ?_)
          have hM : mm_P Z.1 mm_cl A (mm_U M_15 q_25 (.inr (21, [.null, .null, .null, .null, .null, .int 0, .int 0]))) H := hM
          have ne_26 : b1 ≠ q_25 := (mm_neN hz1 nq_24)
          have ne_27 : b2 ≠ q_25 := (mm_neN hc3w nq_24)
          have hc_28 : (mm_U M_15 q_25 (.inr (21, [.null, .null, .null, .null, .null, .int 0, .int 0]))) q_25 = some (.inr (21, [.null, .null, .null, .null, .null, .int 0, .int 0])) := mm_U_eq
          have hc_29 : (mm_U M_15 q_25 (.inr (21, [.null, .null, .null, .null, .null, .int 0, .int 0]))) b1 = some (.inr (22, [.int 1, .null, .int 0, .null, .null, .int 0, .int (mm_b false)])) := (mm_U_ne ne_26).trans hz1
          have hc_30 : (mm_U M_15 q_25 (.inr (21, [.null, .null, .null, .null, .null, .int 0, .int 0]))) b2 = some (.inr (22, [.int 0, .null, .int 0, .null, .null, .int (S.2.2.2.1 w), .int (mm_b (S.2.2.1 w))])) := (mm_U_ne ne_27).trans hc3w
          obtain ⟨M_31, eM_31⟩ : ∃ z, z = mm_U M_15 q_25 (.inr (21, [.null, .null, .null, .null, .null, .int 0, .int 0])) := ⟨_, rfl⟩
          rw [← eM_31] at hM hc_29 hc_30 hc_28
          refine lv_dup hx hb dX2_sameRows_144 rfl ?_
          refine lv_iconst (v := 4) hx hb dX2_sameRows_145 (by decide) ?_
          refine mm_callI (As := [.int 4]) (rest := [.ref q_25]) ⟨hx, hb, hml, hown, hts⟩ hE hST hA (c_X26_init l Z (er := 4) hc_28) (cwI (maxL := 2) 1 hts (lw_meth q2540) rfl rfl rfl (hts _ q99) (hts _ q2538) (hts _ q2539) rfl (by decide +kernel) ⟨(by (try dsimp only); omega), (by (try dsimp only); omega)⟩) hM hS rfl hl.1 (Nat.le_of_ble_eq_true rfl) dX2_sameRows_146 rfl ⟨(by (try dsimp only); omega), (by (try dsimp only); omega)⟩ (fun _ _ _ _ _ _ h9 => h9.elim) (fun v_32 M_33 H locs hp_34 hM hS => ?_)
          obtain ⟨rfl, eM_33⟩ := hp_34
          rw [eM_33] at hM
          have hc_35 : (mm_U M_31 q_25 (.inr (21, [.null, .null, .null, .null, .null, .int 0, .int 4]))) q_25 = some (.inr (21, [.null, .null, .null, .null, .null, .int 0, .int 4])) := mm_U_eq
          have hc_36 : (mm_U M_31 q_25 (.inr (21, [.null, .null, .null, .null, .null, .int 0, .int 4]))) b1 = some (.inr (22, [.int 1, .null, .int 0, .null, .null, .int 0, .int (mm_b false)])) := (mm_U_ne ne_26).trans hc_29
          have hc_37 : (mm_U M_31 q_25 (.inr (21, [.null, .null, .null, .null, .null, .int 0, .int 4]))) b2 = some (.inr (22, [.int 0, .null, .int 0, .null, .null, .int (S.2.2.2.1 w), .int (mm_b (S.2.2.1 w))])) := (mm_U_ne ne_27).trans hc_30
          obtain ⟨M_38, eM_38⟩ : ∃ z, z = mm_U M_31 q_25 (.inr (21, [.null, .null, .null, .null, .null, .int 0, .int 4])) := ⟨_, rfl⟩
          rw [← eM_38] at hM hc_36 hc_37 hc_35
          exact mm_athrowD hx hb htab hlk hE hM hS hc_35 mm_cX26 ⟨4, (Option.some.inj hr9).symm, (mX.of ⟨rfl, nq_24, by subst eM_38 eM_31 eM_10 eM_4; simp only [mm_U_U]⟩).after hex3.mK⟩ dX2_sameRows_149 (by (try dsimp only); omega) (by (try dsimp only); omega)
        · skip
          refine lv_iload hx hb dX2_sameRows_130 (lv_at hl 2 rfl) ?_
          refine lv_aload hx hb dX2_sameRows_132 (lv_at hl 5 rfl) ?_
          refine va_get (D := Z.1) (ci := 22) (v := .int 0) (C := RX27) (T := TX27) (N := 7) hx hb hts in_X27 hown hE.1 (hM.at hz1) 0 rfl mm_cX27 5 (by decide) (hts _ q2583) (fun _ h9 => h9) rfl dX2_sameRows_134 ?_
          refine lv_iand hx hb dX2_sameRows_137 ?_
          rw [show (its &&& 0 : Int32) = 0 from Int32.and_zero]
          refine lv_if_eq (tgt := 150) hx hb dX2_sameRows_138 (by decide) (fun _ => ?_) (fun h9 => absurd (by decide) h9)
          exact kk9 _ _ _ _ _ _ ⟨rfl, lv_sub hl [0, 1, 2, 3, 4, 5, 6, 7, 8] rfl, by (try dsimp only); omega, by (try dsimp only); omega, Or.inr (fun w9 e9 => by cases e9; exact c_23), Or.inr (fun w9 e9 => by cases e9)⟩ hM hS
      obtain ⟨rfl, hl, hcc9, hss9, hC2⟩ := hI9
      rw [if_neg (not_not_intro hC2)] at hr9
      have hbb9 : True := trivial
      refine lv_aload hx hb dX2_sameRows_150 (lv_at hl 5 rfl) ?_
      refine lv_aload hx hb dX2_sameRows_152 (lv_at hl 4 rfl) ?_
      refine lv_acmp_ne (rx := (some b1)) (ry := (some b2)) (tgt := 174) hx hb dX2_sameRows_154 (by decide) (fun c_23 => ?_) (fun c_23 => ?_)
      · skip
        have hbn : b1 ≠ b2 := fun h9 => by first | exact c_23 h9 | exact c_23 (congrArg some h9)
        refine lv_aload hx hb dX2_sameRows_174 (lv_at hl 5 rfl) ?_
        refine lv_aload hx hb dX2_sameRows_176 (lv_at hl 4 rfl) ?_
        refine lv_acmp_eq (rx := (some b1)) (ry := (some b2)) (tgt := 327) hx hb dX2_sameRows_178 (by decide) (fun c_24 => ?_) (fun c_24 => ?_)
        · skip
          exact absurd (Option.some.inj c_24) hbn
        · skip
          refine mm_new (D := Z.1) (ci := 22) (fs := mm_f0X27) (C := RX27) (T := TX27) (N := 7) hx hb hts in_X27 tyX27 tyX27_ok hown (hts _ q2561) (hts _ q2571) (hts _ q100) hE.1 hM hS hA mm_cX27 mm_dfX27 (by (try dsimp only); omega) (by (try dsimp only); omega) dX2_sameRows_181 (fun q_26 H nq_25 hM hS => ?_)
          have hM : mm_P Z.1 mm_cl A (mm_U M_15 q_26 (.inr (22, [.int 0, .null, .int 0, .null, .null, .int 0, .int 0]))) H := hM
          have ne_27 : b1 ≠ q_26 := (mm_neN hz1 nq_25)
          have ne_28 : b2 ≠ q_26 := (mm_neN hc3w nq_25)
          have hc_29 : (mm_U M_15 q_26 (.inr (22, [.int 0, .null, .int 0, .null, .null, .int 0, .int 0]))) q_26 = some (.inr (22, [.int 0, .null, .int 0, .null, .null, .int 0, .int 0])) := mm_U_eq
          have hc_30 : (mm_U M_15 q_26 (.inr (22, [.int 0, .null, .int 0, .null, .null, .int 0, .int 0]))) b1 = some (.inr (22, [.int 1, .null, .int 0, .null, .null, .int 0, .int (mm_b false)])) := (mm_U_ne ne_27).trans hz1
          have hc_31 : (mm_U M_15 q_26 (.inr (22, [.int 0, .null, .int 0, .null, .null, .int 0, .int 0]))) b2 = some (.inr (22, [.int 0, .null, .int 0, .null, .null, .int (S.2.2.2.1 w), .int (mm_b (S.2.2.1 w))])) := (mm_U_ne ne_28).trans hc3w
          obtain ⟨M_32, eM_32⟩ : ∃ z, z = mm_U M_15 q_26 (.inr (22, [.int 0, .null, .int 0, .null, .null, .int 0, .int 0])) := ⟨_, rfl⟩
          rw [← eM_32] at hM hc_30 hc_31 hc_29
          refine lv_dup hx hb dX2_sameRows_184 rfl ?_
          refine lv_iconst (v := 1) hx hb dX2_sameRows_185 (by decide) ?_
          refine mm_callI (As := [.int 1]) (rest := [.ref q_26]) ⟨hx, hb, hml, hown, hts⟩ hE hST hA (c_X27_init l Z (x1 := 1) hc_29) (cwI (maxL := 2) 1 hts (lw_meth q2574) rfl rfl rfl (hts _ q100) (hts _ q2572) (hts _ q2573) rfl (by decide +kernel) ⟨(by (try dsimp only); omega), (by (try dsimp only); omega)⟩) hM hS rfl hl.1 (Nat.le_of_ble_eq_true rfl) dX2_sameRows_186 rfl ⟨(by (try dsimp only); omega), (by (try dsimp only); omega)⟩ (fun _ _ _ _ _ _ h9 => h9.elim) (fun v_33 M_34 H locs hp_35 hM hS => ?_)
          obtain ⟨rfl, eM_34⟩ := hp_35
          rw [eM_34] at hM
          have hc_36 : (mm_U M_32 q_26 (.inr (22, [.int 1, .null, .int 0, .null, .null, .int 0, .int 0]))) q_26 = some (.inr (22, [.int 1, .null, .int 0, .null, .null, .int 0, .int 0])) := mm_U_eq
          have hc_37 : (mm_U M_32 q_26 (.inr (22, [.int 1, .null, .int 0, .null, .null, .int 0, .int 0]))) b1 = some (.inr (22, [.int 1, .null, .int 0, .null, .null, .int 0, .int (mm_b false)])) := (mm_U_ne ne_27).trans hc_30
          have hc_38 : (mm_U M_32 q_26 (.inr (22, [.int 1, .null, .int 0, .null, .null, .int 0, .int 0]))) b2 = some (.inr (22, [.int 0, .null, .int 0, .null, .null, .int (S.2.2.2.1 w), .int (mm_b (S.2.2.1 w))])) := (mm_U_ne ne_28).trans hc_31
          obtain ⟨M_39, eM_39⟩ : ∃ z, z = mm_U M_32 q_26 (.inr (22, [.int 1, .null, .int 0, .null, .null, .int 0, .int 0])) := ⟨_, rfl⟩
          rw [← eM_39] at hM hc_37 hc_38 hc_36
          have hexz : mm_Ext M_15 M_39 := by subst eM_39 eM_32; rw [mm_U_U]; exact mm_Ext.U nq_25
          have hzz : M_39 q_26 = some (mr_E 1 none 0 none none 0 false) := hc_36
          have hCz := hC3.ext hexz
          have hSz := hSt3.ext hC3 hexz
          have hmdz := hexz.at hmd3
          have hnz : ∀ z, M z ≠ none → mnext M_39 z = mnext M_15 z := fun z hz => by unfold mnext; rw [hexz z (hex3.mK.hasN hz)]
          have hc9 : ¬ ((none : Option Nat) ≠ none ∧ (none : Option Nat) = some w) := fun h9 => by rcases h9 with ⟨h8, h7⟩; simp at h8 h7
          rw [if_neg hc9, if_pos (by simp)] at hr9
          have hlt9 : ∀ u9, D u9 = true → u9 ≠ S.1 := fun u9 h9 => Nat.ne_of_lt (hC.1.2.2.2.2.1 u9 h9)
          have hex0 := hexz
          have hC0 := hCz
          have hSt0 := hSz
          have hmd0 := hmdz
          have hLm : ∀ a ∈ L, a ∈ L := fun a h => h
          have hvm : ∀ u9, D u9 = true → D u9 = true ∧ vr u9 = vr u9 := fun u9 h9 => ⟨h9, rfl⟩
          have hnw0 : mNw M_39 L L := mNw.rf _ _
          have hP0 : mPhi M_39 L = mPhi M_15 L := by unfold mPhi; exact List.countP_congr fun z hz => by obtain ⟨m9, t9, h9⟩ := hC.2.2.1 z hz; rw [hnz z h9.has]
          have hter : mtp M_39 L vr D (.natCast 0) true q_26 := by unfold mtp; exact ⟨rfl, hzz⟩
          have hnrb : mnext M_39 q_26 = none := mnext_r hzz
          have hq30 : M_15 q_26 = none := nq_25
          have hle0 : ts_le S S := fun t9 => hC.1.1.le t9
          have hB0 : mB M_39 L vr D S b := hB3.goR hC3 hC0 hex0.mK hLm hvm hle0 hnw0
          have hn0 : ∀ z, M z ≠ none → mnext M_39 z = mnext M z := fun z hz => by unfold mnext; rw [hex0 z (hex3.mK.hasN hz), hex3 z hz]
          refine lv_astore hx hb dX2_sameRows_189 hl (by decide) rfl (fun ls hl => ?_)
          replace hl : lv_has ls 14 [(13, .ref q_26), (12, .int 1), (11, .int 0), (10, .int its), (9, .int own), (6, .ref b2), (5, .ref b1), (4, .ref q_5), (3, .ref q_1), (0, .ref md)] := hl
          refine lv_iload hx hb dX2_sameRows_191 (lv_at hl 2 rfl) ?_
          refine lv_if_eq (tgt := 243) hx hb dX2_sameRows_193 (by decide) (fun _ => ?_) (fun h9 => absurd (by decide) h9)
          refine lv_iload hx hb dX2_sameRows_243 (lv_at hl 1 rfl) ?_
          refine lv_if_eq (tgt := 259) hx hb dX2_sameRows_245 (by decide) (fun h9 => absurd h9 (by decide)) (fun _ => ?_)
          refine lv_aload_n hx hb dX2_sameRows_248 rfl (lv_at hl 9 rfl) ?_
          refine lv_aload hx hb dX2_sameRows_249 (lv_at hl 5 rfl) ?_
          refine lv_aload_n hx hb dX2_sameRows_251 rfl (lv_at hl 8 rfl) ?_
          refine lv_iload hx hb dX2_sameRows_252 (lv_at hl 4 rfl) ?_
          refine lv_aload hx hb dX2_sameRows_254 (lv_at hl 0 rfl) ?_
          have hXw5 : mXG M_39 L vr D g1 y1 := hX31.mono (hex0.mK) hLm hvm
          have hD9w : D w = true := (hvm w hDw).1
          have havw : vr w = b2 := (hvm w hDw).2.trans hbw.symm
          have hsuw : S.2.1 w = .var w := hsw
          obtain ⟨is9w, cm9w, hrww⟩ := (hex0.mK).R hc3w
          have hvOw := hC0.rootR hD9w hsuw havw hrww
          have hoew : uoc w (uap S.2.1 (.natCast 0)) = false := rfl
          refine mm_callVD (As := [.ref b2, .ref q_1, .int own, .ref q_26]) (rest := []) ⟨hx, hb, hml, hown, hts⟩ hE hST hA (d_X2_endsRowA l Z (S := S) (v := w) (av := b2) (q := q_1) (rb := q_26) (st9 := own) (g := g1) (f := y1) (er := (.natCast 0)) (R9 := usome F1 own (.natCast 0) 10) (Hh := Hh) hmd0 hSt0 (by omega) hC0 hD9w havw hvOw ((hex0.mK).atA hA31) hXw5 hs1 hter hnrb hoew (usome_le (hle0) hg1) (hXw5.hh hC0 hB0 hH)) (cwV 4 hts (lw_V q2682 q2684 qs41 q54 q2685) rfl rfl rfl (by decide +kernel) ⟨(by (try dsimp only); omega), (by (try dsimp only); omega)⟩) hM hS mm_cX2 hmd0 rfl hl.1 (Nat.le_of_ble_eq_true rfl) dX2_sameRows_256 rfl ⟨(by (try dsimp only); omega), (by (try dsimp only); omega)⟩ (fun E ce q M9 H1 locs1 hp9 hM9 hS9 hce hcv hcl => by have hj9 : tJoin S F1 F2 (none) (some w) own its = .inl 3 := (by unfold tJoin te_b; dsimp only; rw [hp9.1]); rw [hj9] at hr9; exact mm_outxD htab hlk hM9 hS9 hce hcv hcl ⟨3, (Option.some.inj hr9).symm, hp9.2.after (hex3.mK.trans (hex0.mK))⟩ (by (try dsimp only); omega) (by (try dsimp only); omega)) (fun v_40 M_41 n_43 k_44 H locs hp_42 hM hS => ?_)
          obtain ⟨rfl, hn9w5, hk9w5, Sw5, hclw5, hsgw5, hlkw5, hlcw5, hKew5, hCew5, hSew5, hPew5, hnew5, hpew5, hmew5, htew5⟩ := hp_42
          obtain ⟨hlsw5, hokw5⟩ := mClose_le hC0.1.1 hclw5
          have hlew5 : ts_le S Sw5 := (hle0).trans hlsw5
          have hKw5 := (hex0.mK).trans hKew5
          have hBw5 := (hB0).goR hC0 hCew5 hKew5 (fun _ h => h) (fun _ h => ⟨h, rfl⟩) hlsw5 (mNw.rf _ _)
          have hrqw5 : q_26 ≠ b2 := fun e => by rw [e] at hq30; rw [hq30] at hc3w; cases hc3w
          have hrbw5 : mnext M_41 q_26 = none := (hnew5 _ (hter).has hrqw5).trans hnrb
          have herw5 := mtp.mono hKew5 (fun _ h => h) (fun _ h => ⟨h, rfl⟩) _ _ _ hter
          have hnnw5 : ∀ z, M z ≠ none → ¬ mVar M z → mnext M_41 z = mnext M z := fun z hz hv9 => by rw [hnew5 z ((hex0.mK).hasN (hex3.mK.hasN hz)) (fun e => hv9 (by rw [e, hbw]; exact hC.isVar hDw)), hn0 z hz]
          have hppw5 : mPd D S Sw5 := hpew5
          have hS1w5 : Sw5.1 = S.1 := hSew5
          have hK0 : mK M_39 M_41 := ((mK.rf _).trans hKew5)
          have hlkE : Sw5.2.2.1 = S.2.2.1 := hlkw5
          have hXc1 := hX31.mono (hKw5) hLm hvm
          obtain ⟨is8w, cm8w, hrvw⟩ := (hKw5).R hc3w
          obtain ⟨is7w, hq7w⟩ := hCew5.rootR2 hD9w havw hrvw
          refine lv_iload hx hb dX2_sameRows_259 (lv_at hl 2 rfl) ?_
          refine lv_if_eq (tgt := 276) hx hb dX2_sameRows_261 (by decide) (fun _ => ?_) (fun h9 => absurd (by decide) h9)
          refine lv_aload_n hx hb dX2_sameRows_276 rfl (lv_at hl 9 rfl) ?_
          refine lv_iload hx hb dX2_sameRows_277 (lv_at hl 1 rfl) ?_
          refine lv_if_eq (tgt := 294) hx hb dX2_sameRows_279 (by decide) (fun h9 => absurd h9 (by decide)) (fun _ => ?_)
          refine mm_cutW (v0 := mm_b (Sw5.2.2.1 w)) (pc2 := 295) (ls := ls) (rest := [.ref md]) (M := M_41) (fun kk => ?_) (fun H locs hM hS => ?_) hM hS
          · skip
            refine lv_aload hx hb dX2_sameRows_282 (lv_at hl 5 rfl) ?_
            refine va_get (D := Z.1) (ci := 22) (v := .int (mm_b (Sw5.2.2.1 w))) (C := RX27) (T := TX27) (N := 7) hx hb hts in_X27 hown hE.1 (hM.at hq7w) 0 rfl mm_cX27 6 (by decide) (hts _ q2584) (fun _ h9 => h9) rfl dX2_sameRows_284 ?_
            refine lv_if_eq (tgt := 294) hx hb dX2_sameRows_287 (by decide) (fun c_45 => ?_) (fun c_45 => ?_)
            · skip
              refine lv_iconst (v := 0) hx hb dX2_sameRows_294 (by decide) ?_
              exact kk _ _ _ hM hS (show (mm_b (Sw5.2.2.1 w) : Int32) = 0 from by (first | exact c_45 | (rw [mm_b_n c_45]; rfl))).symm
            · skip
              refine lv_iconst (v := 1) hx hb dX2_sameRows_290 (by decide) ?_
              refine lv_goto (tgt := 295) hx hb dX2_sameRows_291 (by decide) ?_
              exact kk _ _ _ hM hS (show (mm_b (Sw5.2.2.1 w) : Int32) = 1 from by (first | exact c_45 | (rw [mm_b_n c_45]; rfl))).symm
          have hl2c1 : ts_le Sw5 Sw5 := hokw5.le
          have hl3c1 : ts_le S Sw5 := hlsw5.trans hl2c1
          have hl1c1 : ts_le S Sw5 := hlew5
          have hsgc1 := (mClose_var hC0.1.1 (hsw : S.2.1 w = .var w) hclw5).1
          have hTc1 := mT_eq hsgc1 hl2c1 hl3c1 (usome_le hl1c1 hg1 (st := own) (er := (.natCast 0)))
          refine lv_aload_n hx hb dX2_sameRows_295 rfl (lv_at hl 8 rfl) ?_
          refine lv_iload hx hb dX2_sameRows_296 (lv_at hl 4 rfl) ?_
          refine mm_callVD (As := [.int (mm_b (Sw5.2.2.1 w)), .ref q_1, .int own]) (rest := []) ⟨hx, hb, hml, hown, hts⟩ hE hST hA (d_X2_comparesAll l Z (S := Sw5) (iz := Sw5.2.2.1 w) (q := q_1) (st9 := own) (g := g1) (f := y1) (er := (.natCast 0)) (T := Sw5.2.1 w) (Hh := Hh) hmew5 htew5 (by omega) hCew5 ((hKw5).atA hA31) hXc1 hs1 hTc1 rfl (fun _ u9 h8 => by cases h8) (hXc1.hh hCew5 hBw5 hH)) (cwV 3 hts (lw_V q2689 q2691 qs42 q54 q2692) rfl rfl rfl (by decide +kernel) ⟨(by (try dsimp only); omega), (by (try dsimp only); omega)⟩) hM hS mm_cX2 hmew5 rfl hl.1 (Nat.le_of_ble_eq_true rfl) dX2_sameRows_298 rfl ⟨(by (try dsimp only); omega), (by (try dsimp only); omega)⟩ (fun E ce q M9 H1 locs1 hp9 hM9 hS9 hce hcv hcl => by have hj9 : tJoin S F1 F2 (none) (some w) own its = .inl 5 := (by unfold tJoin te_b; dsimp only; rw [hclw5]; dsimp only; rw [tLk_5 hp9.1 hp9.2.1]); rw [hj9] at hr9; exact mm_outxD htab hlk hM9 hS9 hce hcv hcl ⟨5, (Option.some.inj hr9).symm, hp9.2.2.after (hex3.mK.trans (hKw5))⟩ (by (try dsimp only); omega) (by (try dsimp only); omega)) (fun v_45 M_46 n_48 k_49 H locs hp_47 hM hS => ?_)
          obtain ⟨rfl, rfl, rfl, hhfc1, hKec1, hCec1, hnec1, hmec1, htec1⟩ := hp_47
          replace hCec1 : mCI M_46 L vr D (tLk Sw5 w) := hCec1
          have hKc1 := (hKw5).trans hKec1
          have hPcc1 : mPhi M_46 L = mPhi M_41 L := by unfold mPhi; exact List.countP_congr fun z hz => by obtain ⟨m9, t9, h9⟩ := hCew5.2.2.1 z hz; rw [hnec1 z h9.has]
          have hnnc1 : ∀ z, M z ≠ none → ¬ mVar M z → mnext M_46 z = mnext M z := fun z hz hv9 => by rw [hnec1 z ((hKw5).hasN (hex3.mK.hasN hz)), hnnw5 z hz hv9]
          have hBc1 : mB M_46 L vr D (tLk Sw5 w) b := (hBw5).goR hCew5 hCec1 hKec1 (fun _ h => h) (fun _ h => ⟨h, rfl⟩) (tLk_le hokw5).1 (mNw.rf _ _)
          have hlec1 : ts_le S (tLk Sw5 w) := (hlew5).trans (tLk_le hokw5).1
          have hokc1 := (tLk_le hokw5 (v := w)).2
          have hppc1 : mPd D S (tLk Sw5 w) := (hppw5).trans (mPd.lk hCew5 hD9w) (by rw [hS1w5]; exact Nat.le_refl _)
          have hS1c1 : (tLk Sw5 w).1 = S.1 := (tLk_1 _ _).1.trans hS1w5
          have hK0c1 : mK M_39 M_46 := hK0.trans hKec1
          have hXc0 := hX32.mono (hKc1) hLm hvm
          refine lv_aload_n hx hb dX2_sameRows_301 rfl (lv_at hl 9 rfl) ?_
          refine lv_iload hx hb dX2_sameRows_302 (lv_at hl 2 rfl) ?_
          refine lv_if_eq (tgt := 319) hx hb dX2_sameRows_304 (by decide) (fun _ => ?_) (fun h9 => absurd (by decide) h9)
          refine lv_iconst (v := 0) hx hb dX2_sameRows_319 (by decide) ?_
          refine lv_aload hx hb dX2_sameRows_320 (lv_at hl 7 rfl) ?_
          refine lv_iload hx hb dX2_sameRows_322 (lv_at hl 3 rfl) ?_
          refine mm_callVD (As := [.int 0, .ref q_5, .int its]) (rest := []) ⟨hx, hb, hml, hown, hts⟩ hE hST hA (d_X2_comparesAll l Z (S := (tLk Sw5 w)) (iz := false) (q := q_5) (st9 := its) (g := g2) (f := y2) (er := (.natCast 0)) (T := uap (tLk Sw5 w).2.1 (usome g2 its (.natCast 0) 10)) (Hh := Hh) hmec1 htec1 (by omega) hCec1 ((hKc1).atA hA32) hXc0 hs2 rfl rfl (fun h9 => by cases h9) (hXc0.hh hCec1 hBc1 hH)) (cwV 3 hts (lw_V q2689 q2691 qs42 q54 q2692) rfl rfl rfl (by decide +kernel) ⟨(by (try dsimp only); omega), (by (try dsimp only); omega)⟩) hM hS mm_cX2 hmec1 rfl hl.1 (Nat.le_of_ble_eq_true rfl) dX2_sameRows_324 rfl ⟨(by (try dsimp only); omega), (by (try dsimp only); omega)⟩ (fun E ce q M9 H1 locs1 hp9 hM9 hS9 hce hcv hcl => by cases hp9.1) (fun v_50 M_51 n_53 k_54 H locs hp_52 hM hS => ?_)
          obtain ⟨rfl, rfl, rfl, hhfc0, hKec0, hCec0, hnec0, hmec0, htec0⟩ := hp_52
          replace hCec0 : mCI M_51 L vr D (tLk Sw5 w) := hCec0
          have hKc0 := (hKc1).trans hKec0
          have hPcc0 : mPhi M_51 L = mPhi M_46 L := by unfold mPhi; exact List.countP_congr fun z hz => by obtain ⟨m9, t9, h9⟩ := hCec1.2.2.1 z hz; rw [hnec0 z h9.has]
          have hnnc0 : ∀ z, M z ≠ none → ¬ mVar M z → mnext M_51 z = mnext M z := fun z hz hv9 => by rw [hnec0 z ((hKc1).hasN (hex3.mK.hasN hz)), hnnc1 z hz hv9]
          have hBc0 : mB M_51 L vr D (tLk Sw5 w) b := (hBc1).goR hCec1 hCec0 hKec0 (fun _ h => h) (fun _ h => ⟨h, rfl⟩) hokc1.le (mNw.rf _ _)
          have hlec0 := hlec1
          have hokc0 := hokc1
          have hppc0 := hppc1
          have hS1c0 := hS1c1
          have hK0c0 : mK M_39 M_51 := hK0c1.trans hKec0
          have hJ : tJoin S F1 F2 (none) (some w) own its = .inr (tLk Sw5 w) := by unfold tJoin te_b; dsimp only; rw [hclw5]; dsimp only; rw [tLk_eq hhfc1]
          rw [hJ] at hr9
          have hT1 : ∀ w, uend (uap S.2.1 r2) = some w → ∀ l, l < 10 → uhs (S.2.2.2.1 w) l = true → uhs own l = false := by
            intro w9 hw9 l hl9 h1
            rcases hC2.1 with h9 | h9
            · rw [h9]; exact uhs_0 hl9
            · have h8 := h9 w9 (hV2.trans hw9)
              have h7 : uhs (S.2.2.2.1 w9 &&& own) l = false := by rw [h8]; exact uhs_0 hl9
              rw [uhs_and hl9, h1, Bool.true_and] at h7; exact h7
          have hT2 : ∀ w, uend (uap S.2.1 r1) = some w → ∀ l, l < 10 → uhs (S.2.2.2.1 w) l = true → uhs its l = false := by
            intro w9 hw9 l hl9 h1
            rcases hC2.2 with h9 | h9
            · rw [h9]; exact uhs_0 hl9
            · have h8 := h9 w9 (hV1.trans hw9)
              have h7 : uhs (S.2.2.2.1 w9 &&& its) l = false := by rw [h8]; exact uhs_0 hl9
              rw [uhs_and hl9, h1, Bool.true_and] at h7; exact h7
          obtain ⟨kn1, hgj, -⟩ := tJoin_good hG hw1 hw2 (hG.1.le r1) (hG.1.le r2) hU1 hU2 ho hi (fun u h9 h8 => by have h7 := hV1.trans h9; have h6 := hV2.trans h8; first | (cases h7; done) | (cases h6; done) | exact hc9 ⟨by simp, h7.trans h6.symm⟩) hT1 hT2 (by rw [← hV1, ← hV2]; exact hJ)
          have hlen : (L : List Nat).length = L.length + 0 := rfl
          refine kk _ ls _ _ _ _ ⟨lv_sub hl [9, 8, 7] rfl, (tLk Sw5 w), L, vr, D, kn1, (((k + 1) + 1) + 1), hr9, hgj, hKc0, hCec0, hLm, hvm, (by rw [hS1c0]; exact Nat.le_refl _), (fun v9 => ⟨Or.inl, fun h9 => h9.elim id (fun h8 => absurd h8.2 (Nat.not_lt.2 (by rw [hS1c0]; exact h8.1)))⟩), hppc0, by omega, (hnw0.trans hK0c0 (mNw.rf _ _)), by (try dsimp only); omega, by (try dsimp only); omega, by omega, hmec0, htec0, by omega, fun z hz1 hz2 hz3 => Classical.byContradiction fun h9 => hz3 (by rw [hnnc0 z hz1 h9]; exact hz2)⟩ hM hS
      · skip
        have hbe : b1 = b2 := by first | exact Option.some.inj c_23 | exact c_23
        exfalso; rw [hbe] at hz1; rw [hc3w] at hz1; exact absurd (mr_inj (Option.some.inj hz1)).1 (by decide)
    · skip
      obtain ⟨hDv, hsv, hbv, hLv, hcv⟩ := hE1
      have hc3v := hex3.at hcv
      have hz2 := hex3.at hE2
      refine lv_aload hx hb dX2_sameRows_59 (lv_at hl 5 rfl) ?_
      refine va_get (D := Z.1) (ci := 22) (v := .int 0) (C := RX27) (T := TX27) (N := 7) hx hb hts in_X27 hown hE.1 (hM.at hc3v) 0 rfl mm_cX27 0 (by decide) (hts _ q2577) (fun _ h9 => h9) rfl dX2_sameRows_61 ?_
      refine lv_if_ne (tgt := 71) hx hb dX2_sameRows_64 (by decide) (fun h9 => absurd (by decide) h9) (fun _ => ?_)
      refine lv_iconst (v := 1) hx hb dX2_sameRows_67 (by decide) ?_
      refine lv_goto (tgt := 72) hx hb dX2_sameRows_68 (by decide) ?_
      refine lv_istore hx hb dX2_sameRows_72 hl (by decide) rfl (fun ls hl => ?_)
      replace hl : lv_has ls 14 [(11, .int 1), (10, .int its), (9, .int own), (8, .int B2), (7, .int B1), (6, .ref b2), (5, .ref b1), (4, .ref q_5), (3, .ref q_1), (0, .ref md), (1, .ref a1), (2, .ref a2)] := hl
      refine lv_aload hx hb dX2_sameRows_74 (lv_at hl 5 rfl) ?_
      refine va_get (D := Z.1) (ci := 22) (v := .int 1) (C := RX27) (T := TX27) (N := 7) hx hb hts in_X27 hown hE.1 (hM.at hz2) 0 rfl mm_cX27 0 (by decide) (hts _ q2577) (fun _ h9 => h9) rfl dX2_sameRows_76 ?_
      refine lv_if_ne (tgt := 86) hx hb dX2_sameRows_79 (by decide) (fun _ => ?_) (fun h9 => absurd h9 (by decide))
      refine lv_iconst (v := 0) hx hb dX2_sameRows_86 (by decide) ?_
      refine lv_istore hx hb dX2_sameRows_87 hl (by decide) rfl (fun ls hl => ?_)
      replace hl : lv_has ls 14 [(12, .int 0), (11, .int 1), (10, .int its), (9, .int own), (8, .int B2), (7, .int B1), (6, .ref b2), (5, .ref b1), (4, .ref q_5), (3, .ref q_1), (0, .ref md), (1, .ref a1), (2, .ref a2)] := hl
      refine lv_iload hx hb dX2_sameRows_89 (lv_at hl 3 rfl) ?_
      refine mm_cutM (pc2 := 119) (rest2 := []) (A := A) (Z := Z) (H0 := s.heap) (fun M' ls' c2 s2 => M_15 = M' ∧ lv_has ls' 14 [(12, .int 0), (11, .int 1), (10, .int its), (9, .int own), (6, .ref b2), (5, .ref b1), (4, .ref q_5), (3, .ref q_1), (0, .ref md)] ∧ c2 ≤ 2 ∧ s2 ≤ 20 ∧ ((own = 0 ∨ (none : Option Nat) ≠ none) ∧ (its = 0 ∨ (some v : Option Nat) ≠ none))) (fun kk9 => ?_) (fun M' ls H locs cells2 slots2 hI9 hM hS => ?_)
      · skip
        refine lv_if_eq (tgt := 99) hx hb dX2_sameRows_91 (by decide) (fun c_23 => ?_) (fun c_23 => ?_)
        · skip
          refine lv_iload hx hb dX2_sameRows_99 (lv_at hl 2 rfl) ?_
          refine lv_if_eq (tgt := 119) hx hb dX2_sameRows_101 (by decide) (fun c_24 => ?_) (fun c_24 => ?_)
          · skip
            exact kk9 _ _ _ _ _ _ ⟨rfl, lv_sub hl [0, 1, 2, 3, 6, 7, 8, 9, 10] rfl, by (try dsimp only); omega, by (try dsimp only); omega, by simp [c_23, c_24]⟩ hM hS
          · skip
            refine lv_iload hx hb dX2_sameRows_104 (lv_at hl 1 rfl) ?_
            refine lv_if_ne (tgt := 119) hx hb dX2_sameRows_106 (by decide) (fun _ => ?_) (fun h9 => absurd h9 (by decide))
            exact kk9 _ _ _ _ _ _ ⟨rfl, lv_sub hl [0, 1, 2, 3, 6, 7, 8, 9, 10] rfl, by (try dsimp only); omega, by (try dsimp only); omega, by simp [c_23, c_24]⟩ hM hS
        · skip
          refine lv_iload hx hb dX2_sameRows_94 (lv_at hl 0 rfl) ?_
          refine lv_if_eq (tgt := 109) hx hb dX2_sameRows_96 (by decide) (fun _ => ?_) (fun h9 => absurd (by decide) h9)
          have hC9 : ¬ ((own = 0 ∨ (none : Option Nat) ≠ none) ∧ (its = 0 ∨ (some v : Option Nat) ≠ none)) := by simp [c_23]
          rw [if_pos hC9] at hr9
          refine mm_new (D := Z.1) (ci := 21) (fs := mm_f0X26) (C := RX26) (T := TX26) (N := 7) hx hb hts in_X26 tyX26 tyX26_ok hown (hts _ q2492) (hts _ q2530) (hts _ q99) hE.1 hM hS hA mm_cX26 mm_dfX26 (by (try dsimp only); omega) (by (try dsimp only); omega) dX2_sameRows_109 (fun q_25 H nq_24 hM hS => ?_)
          have hM : mm_P Z.1 mm_cl A (mm_U M_15 q_25 (.inr (21, [.null, .null, .null, .null, .null, .int 0, .int 0]))) H := hM
          have ne_26 : b1 ≠ q_25 := (mm_neN hc3v nq_24)
          have ne_27 : b2 ≠ q_25 := (mm_neN hz2 nq_24)
          have hc_28 : (mm_U M_15 q_25 (.inr (21, [.null, .null, .null, .null, .null, .int 0, .int 0]))) q_25 = some (.inr (21, [.null, .null, .null, .null, .null, .int 0, .int 0])) := mm_U_eq
          have hc_29 : (mm_U M_15 q_25 (.inr (21, [.null, .null, .null, .null, .null, .int 0, .int 0]))) b1 = some (.inr (22, [.int 0, .null, .int 0, .null, .null, .int (S.2.2.2.1 v), .int (mm_b (S.2.2.1 v))])) := (mm_U_ne ne_26).trans hc3v
          have hc_30 : (mm_U M_15 q_25 (.inr (21, [.null, .null, .null, .null, .null, .int 0, .int 0]))) b2 = some (.inr (22, [.int 1, .null, .int 0, .null, .null, .int 0, .int (mm_b false)])) := (mm_U_ne ne_27).trans hz2
          obtain ⟨M_31, eM_31⟩ : ∃ z, z = mm_U M_15 q_25 (.inr (21, [.null, .null, .null, .null, .null, .int 0, .int 0])) := ⟨_, rfl⟩
          rw [← eM_31] at hM hc_29 hc_30 hc_28
          refine lv_dup hx hb dX2_sameRows_112 rfl ?_
          refine lv_bipush (v := 6) hx hb dX2_sameRows_113 (by decide) ?_
          refine mm_callI (As := [.int 6]) (rest := [.ref q_25]) ⟨hx, hb, hml, hown, hts⟩ hE hST hA (c_X26_init l Z (er := 6) hc_28) (cwI (maxL := 2) 1 hts (lw_meth q2540) rfl rfl rfl (hts _ q99) (hts _ q2538) (hts _ q2539) rfl (by decide +kernel) ⟨(by (try dsimp only); omega), (by (try dsimp only); omega)⟩) hM hS rfl hl.1 (Nat.le_of_ble_eq_true rfl) dX2_sameRows_115 rfl ⟨(by (try dsimp only); omega), (by (try dsimp only); omega)⟩ (fun _ _ _ _ _ _ h9 => h9.elim) (fun v_32 M_33 H locs hp_34 hM hS => ?_)
          obtain ⟨rfl, eM_33⟩ := hp_34
          rw [eM_33] at hM
          have hc_35 : (mm_U M_31 q_25 (.inr (21, [.null, .null, .null, .null, .null, .int 0, .int 6]))) q_25 = some (.inr (21, [.null, .null, .null, .null, .null, .int 0, .int 6])) := mm_U_eq
          have hc_36 : (mm_U M_31 q_25 (.inr (21, [.null, .null, .null, .null, .null, .int 0, .int 6]))) b1 = some (.inr (22, [.int 0, .null, .int 0, .null, .null, .int (S.2.2.2.1 v), .int (mm_b (S.2.2.1 v))])) := (mm_U_ne ne_26).trans hc_29
          have hc_37 : (mm_U M_31 q_25 (.inr (21, [.null, .null, .null, .null, .null, .int 0, .int 6]))) b2 = some (.inr (22, [.int 1, .null, .int 0, .null, .null, .int 0, .int (mm_b false)])) := (mm_U_ne ne_27).trans hc_30
          obtain ⟨M_38, eM_38⟩ : ∃ z, z = mm_U M_31 q_25 (.inr (21, [.null, .null, .null, .null, .null, .int 0, .int 6])) := ⟨_, rfl⟩
          rw [← eM_38] at hM hc_36 hc_37 hc_35
          exact mm_athrowD hx hb htab hlk hE hM hS hc_35 mm_cX26 ⟨6, (Option.some.inj hr9).symm, (mX.of ⟨rfl, nq_24, by subst eM_38 eM_31 eM_10 eM_4; simp only [mm_U_U]⟩).after hex3.mK⟩ dX2_sameRows_118 (by (try dsimp only); omega) (by (try dsimp only); omega)
      obtain ⟨rfl, hl, hcc9, hss9, hC1⟩ := hI9
      rw [if_neg (not_not_intro hC1)] at hr9
      refine mm_cutM (pc2 := 150) (rest2 := []) (A := A) (Z := Z) (H0 := s.heap) (fun M' ls' c2 s2 => M_15 = M' ∧ lv_has ls' 14 [(12, .int 0), (11, .int 1), (10, .int its), (9, .int own), (6, .ref b2), (5, .ref b1), (4, .ref q_5), (3, .ref q_1), (0, .ref md)] ∧ c2 ≤ 2 ∧ s2 ≤ 20 ∧ ((own = 0 ∨ ∀ w9, (none : Option Nat) = some w9 → S.2.2.2.1 w9 &&& own = 0) ∧ (its = 0 ∨ ∀ v9, (some v : Option Nat) = some v9 → S.2.2.2.1 v9 &&& its = 0))) (fun kk9 => ?_) (fun M' ls H locs cells2 slots2 hI9 hM hS => ?_)
      · skip
        refine lv_iload hx hb dX2_sameRows_119 (lv_at hl 3 rfl) ?_
        refine lv_aload hx hb dX2_sameRows_121 (lv_at hl 4 rfl) ?_
        refine va_get (D := Z.1) (ci := 22) (v := .int 0) (C := RX27) (T := TX27) (N := 7) hx hb hts in_X27 hown hE.1 (hM.at hz2) 0 rfl mm_cX27 5 (by decide) (hts _ q2583) (fun _ h9 => h9) rfl dX2_sameRows_123 ?_
        refine lv_iand hx hb dX2_sameRows_126 ?_
        rw [show (own &&& 0 : Int32) = 0 from Int32.and_zero]
        refine lv_if_ne (tgt := 141) hx hb dX2_sameRows_127 (by decide) (fun h9 => absurd (by decide) h9) (fun _ => ?_)
        refine lv_iload hx hb dX2_sameRows_130 (lv_at hl 2 rfl) ?_
        refine lv_aload hx hb dX2_sameRows_132 (lv_at hl 5 rfl) ?_
        refine va_get (D := Z.1) (ci := 22) (v := .int (S.2.2.2.1 v)) (C := RX27) (T := TX27) (N := 7) hx hb hts in_X27 hown hE.1 (hM.at hc3v) 0 rfl mm_cX27 5 (by decide) (hts _ q2583) (fun _ h9 => h9) rfl dX2_sameRows_134 ?_
        refine lv_iand hx hb dX2_sameRows_137 ?_
        rw [show (its &&& (S.2.2.2.1 v) : Int32) = (S.2.2.2.1 v) &&& its from Int32.and_comm _ _]
        refine lv_if_eq (tgt := 150) hx hb dX2_sameRows_138 (by decide) (fun c_23 => ?_) (fun c_23 => ?_)
        · skip
          exact kk9 _ _ _ _ _ _ ⟨rfl, lv_sub hl [0, 1, 2, 3, 4, 5, 6, 7, 8] rfl, by (try dsimp only); omega, by (try dsimp only); omega, Or.inr (fun w9 e9 => by cases e9), Or.inr (fun w9 e9 => by cases e9; exact c_23)⟩ hM hS
        · skip
          have hC9 : ¬ ((own = 0 ∨ ∀ w9, (none : Option Nat) = some w9 → S.2.2.2.1 w9 &&& own = 0) ∧ (its = 0 ∨ ∀ v9, (some v : Option Nat) = some v9 → S.2.2.2.1 v9 &&& its = 0)) := by
            intro h9
            rcases h9.2 with h8 | h8
            · exact c_23 (by rw [h8]; exact Int32.and_zero)
            · exact c_23 (h8 v rfl)
          rw [if_pos hC9] at hr9
          refine mm_new (D := Z.1) (ci := 21) (fs := mm_f0X26) (C := RX26) (T := TX26) (N := 7) hx hb hts in_X26 tyX26 tyX26_ok hown (hts _ q2492) (hts _ q2530) (hts _ q99) hE.1 hM hS hA mm_cX26 mm_dfX26 (by (try dsimp only); omega) (by (try dsimp only); omega) dX2_sameRows_141 (fun q_25 H nq_24 hM hS => ?_)
          have hM : mm_P Z.1 mm_cl A (mm_U M_15 q_25 (.inr (21, [.null, .null, .null, .null, .null, .int 0, .int 0]))) H := hM
          have ne_26 : b1 ≠ q_25 := (mm_neN hc3v nq_24)
          have ne_27 : b2 ≠ q_25 := (mm_neN hz2 nq_24)
          have hc_28 : (mm_U M_15 q_25 (.inr (21, [.null, .null, .null, .null, .null, .int 0, .int 0]))) q_25 = some (.inr (21, [.null, .null, .null, .null, .null, .int 0, .int 0])) := mm_U_eq
          have hc_29 : (mm_U M_15 q_25 (.inr (21, [.null, .null, .null, .null, .null, .int 0, .int 0]))) b1 = some (.inr (22, [.int 0, .null, .int 0, .null, .null, .int (S.2.2.2.1 v), .int (mm_b (S.2.2.1 v))])) := (mm_U_ne ne_26).trans hc3v
          have hc_30 : (mm_U M_15 q_25 (.inr (21, [.null, .null, .null, .null, .null, .int 0, .int 0]))) b2 = some (.inr (22, [.int 1, .null, .int 0, .null, .null, .int 0, .int (mm_b false)])) := (mm_U_ne ne_27).trans hz2
          obtain ⟨M_31, eM_31⟩ : ∃ z, z = mm_U M_15 q_25 (.inr (21, [.null, .null, .null, .null, .null, .int 0, .int 0])) := ⟨_, rfl⟩
          rw [← eM_31] at hM hc_29 hc_30 hc_28
          refine lv_dup hx hb dX2_sameRows_144 rfl ?_
          refine lv_iconst (v := 4) hx hb dX2_sameRows_145 (by decide) ?_
          refine mm_callI (As := [.int 4]) (rest := [.ref q_25]) ⟨hx, hb, hml, hown, hts⟩ hE hST hA (c_X26_init l Z (er := 4) hc_28) (cwI (maxL := 2) 1 hts (lw_meth q2540) rfl rfl rfl (hts _ q99) (hts _ q2538) (hts _ q2539) rfl (by decide +kernel) ⟨(by (try dsimp only); omega), (by (try dsimp only); omega)⟩) hM hS rfl hl.1 (Nat.le_of_ble_eq_true rfl) dX2_sameRows_146 rfl ⟨(by (try dsimp only); omega), (by (try dsimp only); omega)⟩ (fun _ _ _ _ _ _ h9 => h9.elim) (fun v_32 M_33 H locs hp_34 hM hS => ?_)
          obtain ⟨rfl, eM_33⟩ := hp_34
          rw [eM_33] at hM
          have hc_35 : (mm_U M_31 q_25 (.inr (21, [.null, .null, .null, .null, .null, .int 0, .int 4]))) q_25 = some (.inr (21, [.null, .null, .null, .null, .null, .int 0, .int 4])) := mm_U_eq
          have hc_36 : (mm_U M_31 q_25 (.inr (21, [.null, .null, .null, .null, .null, .int 0, .int 4]))) b1 = some (.inr (22, [.int 0, .null, .int 0, .null, .null, .int (S.2.2.2.1 v), .int (mm_b (S.2.2.1 v))])) := (mm_U_ne ne_26).trans hc_29
          have hc_37 : (mm_U M_31 q_25 (.inr (21, [.null, .null, .null, .null, .null, .int 0, .int 4]))) b2 = some (.inr (22, [.int 1, .null, .int 0, .null, .null, .int 0, .int (mm_b false)])) := (mm_U_ne ne_27).trans hc_30
          obtain ⟨M_38, eM_38⟩ : ∃ z, z = mm_U M_31 q_25 (.inr (21, [.null, .null, .null, .null, .null, .int 0, .int 4])) := ⟨_, rfl⟩
          rw [← eM_38] at hM hc_36 hc_37 hc_35
          exact mm_athrowD hx hb htab hlk hE hM hS hc_35 mm_cX26 ⟨4, (Option.some.inj hr9).symm, (mX.of ⟨rfl, nq_24, by subst eM_38 eM_31 eM_10 eM_4; simp only [mm_U_U]⟩).after hex3.mK⟩ dX2_sameRows_149 (by (try dsimp only); omega) (by (try dsimp only); omega)
      obtain ⟨rfl, hl, hcc9, hss9, hC2⟩ := hI9
      rw [if_neg (not_not_intro hC2)] at hr9
      have hbb9 : True := trivial
      refine lv_aload hx hb dX2_sameRows_150 (lv_at hl 5 rfl) ?_
      refine lv_aload hx hb dX2_sameRows_152 (lv_at hl 4 rfl) ?_
      refine lv_acmp_ne (rx := (some b1)) (ry := (some b2)) (tgt := 174) hx hb dX2_sameRows_154 (by decide) (fun c_23 => ?_) (fun c_23 => ?_)
      · skip
        have hbn : b1 ≠ b2 := fun h9 => by first | exact c_23 h9 | exact c_23 (congrArg some h9)
        refine lv_aload hx hb dX2_sameRows_174 (lv_at hl 5 rfl) ?_
        refine lv_aload hx hb dX2_sameRows_176 (lv_at hl 4 rfl) ?_
        refine lv_acmp_eq (rx := (some b1)) (ry := (some b2)) (tgt := 327) hx hb dX2_sameRows_178 (by decide) (fun c_24 => ?_) (fun c_24 => ?_)
        · skip
          exact absurd (Option.some.inj c_24) hbn
        · skip
          refine mm_new (D := Z.1) (ci := 22) (fs := mm_f0X27) (C := RX27) (T := TX27) (N := 7) hx hb hts in_X27 tyX27 tyX27_ok hown (hts _ q2561) (hts _ q2571) (hts _ q100) hE.1 hM hS hA mm_cX27 mm_dfX27 (by (try dsimp only); omega) (by (try dsimp only); omega) dX2_sameRows_181 (fun q_26 H nq_25 hM hS => ?_)
          have hM : mm_P Z.1 mm_cl A (mm_U M_15 q_26 (.inr (22, [.int 0, .null, .int 0, .null, .null, .int 0, .int 0]))) H := hM
          have ne_27 : b1 ≠ q_26 := (mm_neN hc3v nq_25)
          have ne_28 : b2 ≠ q_26 := (mm_neN hz2 nq_25)
          have hc_29 : (mm_U M_15 q_26 (.inr (22, [.int 0, .null, .int 0, .null, .null, .int 0, .int 0]))) q_26 = some (.inr (22, [.int 0, .null, .int 0, .null, .null, .int 0, .int 0])) := mm_U_eq
          have hc_30 : (mm_U M_15 q_26 (.inr (22, [.int 0, .null, .int 0, .null, .null, .int 0, .int 0]))) b1 = some (.inr (22, [.int 0, .null, .int 0, .null, .null, .int (S.2.2.2.1 v), .int (mm_b (S.2.2.1 v))])) := (mm_U_ne ne_27).trans hc3v
          have hc_31 : (mm_U M_15 q_26 (.inr (22, [.int 0, .null, .int 0, .null, .null, .int 0, .int 0]))) b2 = some (.inr (22, [.int 1, .null, .int 0, .null, .null, .int 0, .int (mm_b false)])) := (mm_U_ne ne_28).trans hz2
          obtain ⟨M_32, eM_32⟩ : ∃ z, z = mm_U M_15 q_26 (.inr (22, [.int 0, .null, .int 0, .null, .null, .int 0, .int 0])) := ⟨_, rfl⟩
          rw [← eM_32] at hM hc_30 hc_31 hc_29
          refine lv_dup hx hb dX2_sameRows_184 rfl ?_
          refine lv_iconst (v := 1) hx hb dX2_sameRows_185 (by decide) ?_
          refine mm_callI (As := [.int 1]) (rest := [.ref q_26]) ⟨hx, hb, hml, hown, hts⟩ hE hST hA (c_X27_init l Z (x1 := 1) hc_29) (cwI (maxL := 2) 1 hts (lw_meth q2574) rfl rfl rfl (hts _ q100) (hts _ q2572) (hts _ q2573) rfl (by decide +kernel) ⟨(by (try dsimp only); omega), (by (try dsimp only); omega)⟩) hM hS rfl hl.1 (Nat.le_of_ble_eq_true rfl) dX2_sameRows_186 rfl ⟨(by (try dsimp only); omega), (by (try dsimp only); omega)⟩ (fun _ _ _ _ _ _ h9 => h9.elim) (fun v_33 M_34 H locs hp_35 hM hS => ?_)
          obtain ⟨rfl, eM_34⟩ := hp_35
          rw [eM_34] at hM
          have hc_36 : (mm_U M_32 q_26 (.inr (22, [.int 1, .null, .int 0, .null, .null, .int 0, .int 0]))) q_26 = some (.inr (22, [.int 1, .null, .int 0, .null, .null, .int 0, .int 0])) := mm_U_eq
          have hc_37 : (mm_U M_32 q_26 (.inr (22, [.int 1, .null, .int 0, .null, .null, .int 0, .int 0]))) b1 = some (.inr (22, [.int 0, .null, .int 0, .null, .null, .int (S.2.2.2.1 v), .int (mm_b (S.2.2.1 v))])) := (mm_U_ne ne_27).trans hc_30
          have hc_38 : (mm_U M_32 q_26 (.inr (22, [.int 1, .null, .int 0, .null, .null, .int 0, .int 0]))) b2 = some (.inr (22, [.int 1, .null, .int 0, .null, .null, .int 0, .int (mm_b false)])) := (mm_U_ne ne_28).trans hc_31
          obtain ⟨M_39, eM_39⟩ : ∃ z, z = mm_U M_32 q_26 (.inr (22, [.int 1, .null, .int 0, .null, .null, .int 0, .int 0])) := ⟨_, rfl⟩
          rw [← eM_39] at hM hc_37 hc_38 hc_36
          have hexz : mm_Ext M_15 M_39 := by subst eM_39 eM_32; rw [mm_U_U]; exact mm_Ext.U nq_25
          have hzz : M_39 q_26 = some (mr_E 1 none 0 none none 0 false) := hc_36
          have hCz := hC3.ext hexz
          have hSz := hSt3.ext hC3 hexz
          have hmdz := hexz.at hmd3
          have hnz : ∀ z, M z ≠ none → mnext M_39 z = mnext M_15 z := fun z hz => by unfold mnext; rw [hexz z (hex3.mK.hasN hz)]
          have hc9 : ¬ ((some v : Option Nat) ≠ none ∧ (some v : Option Nat) = none) := fun h9 => by rcases h9 with ⟨h8, h7⟩; simp at h8 h7
          rw [if_neg hc9, if_pos (by simp)] at hr9
          have hlt9 : ∀ u9, D u9 = true → u9 ≠ S.1 := fun u9 h9 => Nat.ne_of_lt (hC.1.2.2.2.2.1 u9 h9)
          have hex0 := hexz
          have hC0 := hCz
          have hSt0 := hSz
          have hmd0 := hmdz
          have hLm : ∀ a ∈ L, a ∈ L := fun a h => h
          have hvm : ∀ u9, D u9 = true → D u9 = true ∧ vr u9 = vr u9 := fun u9 h9 => ⟨h9, rfl⟩
          have hnw0 : mNw M_39 L L := mNw.rf _ _
          have hP0 : mPhi M_39 L = mPhi M_15 L := by unfold mPhi; exact List.countP_congr fun z hz => by obtain ⟨m9, t9, h9⟩ := hC.2.2.1 z hz; rw [hnz z h9.has]
          have hter : mtp M_39 L vr D (.natCast 0) true q_26 := by unfold mtp; exact ⟨rfl, hzz⟩
          have hnrb : mnext M_39 q_26 = none := mnext_r hzz
          have hq30 : M_15 q_26 = none := nq_25
          have hle0 : ts_le S S := fun t9 => hC.1.1.le t9
          have hB0 : mB M_39 L vr D S b := hB3.goR hC3 hC0 hex0.mK hLm hvm hle0 hnw0
          have hn0 : ∀ z, M z ≠ none → mnext M_39 z = mnext M z := fun z hz => by unfold mnext; rw [hex0 z (hex3.mK.hasN hz), hex3 z hz]
          refine lv_astore hx hb dX2_sameRows_189 hl (by decide) rfl (fun ls hl => ?_)
          replace hl : lv_has ls 14 [(13, .ref q_26), (12, .int 0), (11, .int 1), (10, .int its), (9, .int own), (6, .ref b2), (5, .ref b1), (4, .ref q_5), (3, .ref q_1), (0, .ref md)] := hl
          refine lv_iload hx hb dX2_sameRows_191 (lv_at hl 2 rfl) ?_
          refine lv_if_eq (tgt := 243) hx hb dX2_sameRows_193 (by decide) (fun h9 => absurd h9 (by decide)) (fun _ => ?_)
          refine lv_iload hx hb dX2_sameRows_196 (lv_at hl 1 rfl) ?_
          refine lv_if_eq (tgt := 243) hx hb dX2_sameRows_198 (by decide) (fun _ => ?_) (fun h9 => absurd (by decide) h9)
          refine lv_iload hx hb dX2_sameRows_243 (lv_at hl 1 rfl) ?_
          refine lv_if_eq (tgt := 259) hx hb dX2_sameRows_245 (by decide) (fun _ => ?_) (fun h9 => absurd (by decide) h9)
          refine lv_iload hx hb dX2_sameRows_259 (lv_at hl 2 rfl) ?_
          refine lv_if_eq (tgt := 276) hx hb dX2_sameRows_261 (by decide) (fun h9 => absurd h9 (by decide)) (fun _ => ?_)
          refine lv_aload_n hx hb dX2_sameRows_264 rfl (lv_at hl 9 rfl) ?_
          refine lv_aload hx hb dX2_sameRows_265 (lv_at hl 6 rfl) ?_
          refine lv_aload hx hb dX2_sameRows_267 (lv_at hl 7 rfl) ?_
          refine lv_iload hx hb dX2_sameRows_269 (lv_at hl 3 rfl) ?_
          refine lv_aload hx hb dX2_sameRows_271 (lv_at hl 0 rfl) ?_
          have hXv5 : mXG M_39 L vr D g2 y2 := hX32.mono (hex0.mK) hLm hvm
          have hD9v : D v = true := (hvm v hDv).1
          have havv : vr v = b1 := (hvm v hDv).2.trans hbv.symm
          have hsuv : S.2.1 v = .var v := hsv
          obtain ⟨is9v, cm9v, hrwv⟩ := (hex0.mK).R hc3v
          have hvOv := hC0.rootR hD9v hsuv havv hrwv
          have hoev : uoc v (uap S.2.1 (.natCast 0)) = false := rfl
          refine mm_callVD (As := [.ref b1, .ref q_5, .int its, .ref q_26]) (rest := []) ⟨hx, hb, hml, hown, hts⟩ hE hST hA (d_X2_endsRowA l Z (S := S) (v := v) (av := b1) (q := q_5) (rb := q_26) (st9 := its) (g := g2) (f := y2) (er := (.natCast 0)) (R9 := usome F2 its (.natCast 0) 10) (Hh := Hh) hmd0 hSt0 (by omega) hC0 hD9v havv hvOv ((hex0.mK).atA hA32) hXv5 hs2 hter hnrb hoev (usome_le (hle0) hg2) (hXv5.hh hC0 hB0 hH)) (cwV 4 hts (lw_V q2682 q2684 qs41 q54 q2685) rfl rfl rfl (by decide +kernel) ⟨(by (try dsimp only); omega), (by (try dsimp only); omega)⟩) hM hS mm_cX2 hmd0 rfl hl.1 (Nat.le_of_ble_eq_true rfl) dX2_sameRows_273 rfl ⟨(by (try dsimp only); omega), (by (try dsimp only); omega)⟩ (fun E ce q M9 H1 locs1 hp9 hM9 hS9 hce hcv hcl => by have hj9 : tJoin S F1 F2 (some v) (none) own its = .inl 3 := (by unfold tJoin te_b; dsimp only; rw [hp9.1]); rw [hj9] at hr9; exact mm_outxD htab hlk hM9 hS9 hce hcv hcl ⟨3, (Option.some.inj hr9).symm, hp9.2.after (hex3.mK.trans (hex0.mK))⟩ (by (try dsimp only); omega) (by (try dsimp only); omega)) (fun v_40 M_41 n_43 k_44 H locs hp_42 hM hS => ?_)
          obtain ⟨rfl, hn9v5, hk9v5, Sv5, hclv5, hsgv5, hlkv5, hlcv5, hKev5, hCev5, hSev5, hPev5, hnev5, hpev5, hmev5, htev5⟩ := hp_42
          obtain ⟨hlsv5, hokv5⟩ := mClose_le hC0.1.1 hclv5
          have hlev5 : ts_le S Sv5 := (hle0).trans hlsv5
          have hKv5 := (hex0.mK).trans hKev5
          have hBv5 := (hB0).goR hC0 hCev5 hKev5 (fun _ h => h) (fun _ h => ⟨h, rfl⟩) hlsv5 (mNw.rf _ _)
          have hrqv5 : q_26 ≠ b1 := fun e => by rw [e] at hq30; rw [hq30] at hc3v; cases hc3v
          have hrbv5 : mnext M_41 q_26 = none := (hnev5 _ (hter).has hrqv5).trans hnrb
          have herv5 := mtp.mono hKev5 (fun _ h => h) (fun _ h => ⟨h, rfl⟩) _ _ _ hter
          have hnnv5 : ∀ z, M z ≠ none → ¬ mVar M z → mnext M_41 z = mnext M z := fun z hz hv9 => by rw [hnev5 z ((hex0.mK).hasN (hex3.mK.hasN hz)) (fun e => hv9 (by rw [e, hbv]; exact hC.isVar hDv)), hn0 z hz]
          have hppv5 : mPd D S Sv5 := hpev5
          have hS1v5 : Sv5.1 = S.1 := hSev5
          have hK0 : mK M_39 M_41 := ((mK.rf _).trans hKev5)
          have hlkE : Sv5.2.2.1 = S.2.2.1 := hlkv5
          have hXc1 := hX31.mono (hKv5) hLm hvm
          refine lv_aload_n hx hb dX2_sameRows_276 rfl (lv_at hl 9 rfl) ?_
          refine lv_iload hx hb dX2_sameRows_277 (lv_at hl 1 rfl) ?_
          refine lv_if_eq (tgt := 294) hx hb dX2_sameRows_279 (by decide) (fun _ => ?_) (fun h9 => absurd (by decide) h9)
          refine lv_iconst (v := 0) hx hb dX2_sameRows_294 (by decide) ?_
          refine lv_aload_n hx hb dX2_sameRows_295 rfl (lv_at hl 8 rfl) ?_
          refine lv_iload hx hb dX2_sameRows_296 (lv_at hl 4 rfl) ?_
          refine mm_callVD (As := [.int 0, .ref q_1, .int own]) (rest := []) ⟨hx, hb, hml, hown, hts⟩ hE hST hA (d_X2_comparesAll l Z (S := Sv5) (iz := false) (q := q_1) (st9 := own) (g := g1) (f := y1) (er := (.natCast 0)) (T := uap Sv5.2.1 (usome g1 own (.natCast 0) 10)) (Hh := Hh) hmev5 htev5 (by omega) hCev5 ((hKv5).atA hA31) hXc1 hs1 rfl rfl (fun h9 => by cases h9) (hXc1.hh hCev5 hBv5 hH)) (cwV 3 hts (lw_V q2689 q2691 qs42 q54 q2692) rfl rfl rfl (by decide +kernel) ⟨(by (try dsimp only); omega), (by (try dsimp only); omega)⟩) hM hS mm_cX2 hmev5 rfl hl.1 (Nat.le_of_ble_eq_true rfl) dX2_sameRows_298 rfl ⟨(by (try dsimp only); omega), (by (try dsimp only); omega)⟩ (fun E ce q M9 H1 locs1 hp9 hM9 hS9 hce hcv hcl => by cases hp9.1) (fun v_45 M_46 n_48 k_49 H locs hp_47 hM hS => ?_)
          obtain ⟨rfl, rfl, rfl, hhfc1, hKec1, hCec1, hnec1, hmec1, htec1⟩ := hp_47
          replace hCec1 : mCI M_46 L vr D Sv5 := hCec1
          have hKc1 := (hKv5).trans hKec1
          have hPcc1 : mPhi M_46 L = mPhi M_41 L := by unfold mPhi; exact List.countP_congr fun z hz => by obtain ⟨m9, t9, h9⟩ := hCev5.2.2.1 z hz; rw [hnec1 z h9.has]
          have hnnc1 : ∀ z, M z ≠ none → ¬ mVar M z → mnext M_46 z = mnext M z := fun z hz hv9 => by rw [hnec1 z ((hKv5).hasN (hex3.mK.hasN hz)), hnnv5 z hz hv9]
          have hBc1 : mB M_46 L vr D Sv5 b := (hBv5).goR hCev5 hCec1 hKec1 (fun _ h => h) (fun _ h => ⟨h, rfl⟩) hokv5.le (mNw.rf _ _)
          have hlec1 := hlev5
          have hokc1 := hokv5
          have hppc1 := hppv5
          have hS1c1 := hS1v5
          have hK0c1 : mK M_39 M_46 := hK0.trans hKec1
          have hXc0 := hX32.mono (hKc1) hLm hvm
          obtain ⟨is8v, cm8v, hrvv⟩ := (hKc1).R hc3v
          obtain ⟨is7v, hq7v⟩ := hCec1.rootR2 hD9v havv hrvv
          refine lv_aload_n hx hb dX2_sameRows_301 rfl (lv_at hl 9 rfl) ?_
          refine lv_iload hx hb dX2_sameRows_302 (lv_at hl 2 rfl) ?_
          refine lv_if_eq (tgt := 319) hx hb dX2_sameRows_304 (by decide) (fun h9 => absurd h9 (by decide)) (fun _ => ?_)
          refine mm_cutW (v0 := mm_b (Sv5.2.2.1 v)) (pc2 := 320) (ls := ls) (rest := [.ref md]) (M := M_46) (fun kk => ?_) (fun H locs hM hS => ?_) hM hS
          · skip
            refine lv_aload hx hb dX2_sameRows_307 (lv_at hl 6 rfl) ?_
            refine va_get (D := Z.1) (ci := 22) (v := .int (mm_b (Sv5.2.2.1 v))) (C := RX27) (T := TX27) (N := 7) hx hb hts in_X27 hown hE.1 (hM.at hq7v) 0 rfl mm_cX27 6 (by decide) (hts _ q2584) (fun _ h9 => h9) rfl dX2_sameRows_309 ?_
            refine lv_if_eq (tgt := 319) hx hb dX2_sameRows_312 (by decide) (fun c_50 => ?_) (fun c_50 => ?_)
            · skip
              refine lv_iconst (v := 0) hx hb dX2_sameRows_319 (by decide) ?_
              exact kk _ _ _ hM hS (show (mm_b (Sv5.2.2.1 v) : Int32) = 0 from by (first | exact c_50 | (rw [mm_b_n c_50]; rfl))).symm
            · skip
              refine lv_iconst (v := 1) hx hb dX2_sameRows_315 (by decide) ?_
              refine lv_goto (tgt := 320) hx hb dX2_sameRows_316 (by decide) ?_
              exact kk _ _ _ hM hS (show (mm_b (Sv5.2.2.1 v) : Int32) = 1 from by (first | exact c_50 | (rw [mm_b_n c_50]; rfl))).symm
          have hl2c0 : ts_le Sv5 Sv5 := hokv5.le
          have hl3c0 : ts_le S Sv5 := hlsv5.trans hl2c0
          have hl1c0 : ts_le S Sv5 := hlec1
          have hsgc0 := (mClose_var hC0.1.1 (hsv : S.2.1 v = .var v) hclv5).1
          have hTc0 := mT_eq hsgc0 hl2c0 hl3c0 (usome_le hl1c0 hg2 (st := its) (er := (.natCast 0)))
          refine lv_aload hx hb dX2_sameRows_320 (lv_at hl 7 rfl) ?_
          refine lv_iload hx hb dX2_sameRows_322 (lv_at hl 3 rfl) ?_
          refine mm_callVD (As := [.int (mm_b (Sv5.2.2.1 v)), .ref q_5, .int its]) (rest := []) ⟨hx, hb, hml, hown, hts⟩ hE hST hA (d_X2_comparesAll l Z (S := Sv5) (iz := Sv5.2.2.1 v) (q := q_5) (st9 := its) (g := g2) (f := y2) (er := (.natCast 0)) (T := Sv5.2.1 v) (Hh := Hh) hmec1 htec1 (by omega) hCec1 ((hKc1).atA hA32) hXc0 hs2 hTc0 rfl (fun _ u9 h8 => by cases h8) (hXc0.hh hCec1 hBc1 hH)) (cwV 3 hts (lw_V q2689 q2691 qs42 q54 q2692) rfl rfl rfl (by decide +kernel) ⟨(by (try dsimp only); omega), (by (try dsimp only); omega)⟩) hM hS mm_cX2 hmec1 rfl hl.1 (Nat.le_of_ble_eq_true rfl) dX2_sameRows_324 rfl ⟨(by (try dsimp only); omega), (by (try dsimp only); omega)⟩ (fun E ce q M9 H1 locs1 hp9 hM9 hS9 hce hcv hcl => by have hj9 : tJoin S F1 F2 (some v) (none) own its = .inl 5 := (by unfold tJoin te_b; dsimp only; rw [hclv5]; dsimp only; rw [tLk_5 hp9.1 hp9.2.1]); rw [hj9] at hr9; exact mm_outxD htab hlk hM9 hS9 hce hcv hcl ⟨5, (Option.some.inj hr9).symm, hp9.2.2.after (hex3.mK.trans (hKc1))⟩ (by (try dsimp only); omega) (by (try dsimp only); omega)) (fun v_50 M_51 n_53 k_54 H locs hp_52 hM hS => ?_)
          obtain ⟨rfl, rfl, rfl, hhfc0, hKec0, hCec0, hnec0, hmec0, htec0⟩ := hp_52
          replace hCec0 : mCI M_51 L vr D (tLk Sv5 v) := hCec0
          have hKc0 := (hKc1).trans hKec0
          have hPcc0 : mPhi M_51 L = mPhi M_46 L := by unfold mPhi; exact List.countP_congr fun z hz => by obtain ⟨m9, t9, h9⟩ := hCec1.2.2.1 z hz; rw [hnec0 z h9.has]
          have hnnc0 : ∀ z, M z ≠ none → ¬ mVar M z → mnext M_51 z = mnext M z := fun z hz hv9 => by rw [hnec0 z ((hKc1).hasN (hex3.mK.hasN hz)), hnnc1 z hz hv9]
          have hBc0 : mB M_51 L vr D (tLk Sv5 v) b := (hBc1).goR hCec1 hCec0 hKec0 (fun _ h => h) (fun _ h => ⟨h, rfl⟩) (tLk_le hokc1).1 (mNw.rf _ _)
          have hlec0 : ts_le S (tLk Sv5 v) := (hlec1).trans (tLk_le hokc1).1
          have hokc0 := (tLk_le hokc1 (v := v)).2
          have hppc0 : mPd D S (tLk Sv5 v) := (hppv5).trans (mPd.lk hCec1 hD9v) (by rw [hS1v5]; exact Nat.le_refl _)
          have hS1c0 : (tLk Sv5 v).1 = S.1 := (tLk_1 _ _).1.trans hS1v5
          have hK0c0 : mK M_39 M_51 := hK0c1.trans hKec0
          have hJ : tJoin S F1 F2 (some v) (none) own its = .inr (tLk Sv5 v) := by unfold tJoin te_b; dsimp only; rw [hclv5]; dsimp only; rw [tLk_eq hhfc0]
          rw [hJ] at hr9
          have hT1 : ∀ w, uend (uap S.2.1 r2) = some w → ∀ l, l < 10 → uhs (S.2.2.2.1 w) l = true → uhs own l = false := by
            intro w9 hw9 l hl9 h1
            rcases hC2.1 with h9 | h9
            · rw [h9]; exact uhs_0 hl9
            · have h8 := h9 w9 (hV2.trans hw9)
              have h7 : uhs (S.2.2.2.1 w9 &&& own) l = false := by rw [h8]; exact uhs_0 hl9
              rw [uhs_and hl9, h1, Bool.true_and] at h7; exact h7
          have hT2 : ∀ w, uend (uap S.2.1 r1) = some w → ∀ l, l < 10 → uhs (S.2.2.2.1 w) l = true → uhs its l = false := by
            intro w9 hw9 l hl9 h1
            rcases hC2.2 with h9 | h9
            · rw [h9]; exact uhs_0 hl9
            · have h8 := h9 w9 (hV1.trans hw9)
              have h7 : uhs (S.2.2.2.1 w9 &&& its) l = false := by rw [h8]; exact uhs_0 hl9
              rw [uhs_and hl9, h1, Bool.true_and] at h7; exact h7
          obtain ⟨kn1, hgj, -⟩ := tJoin_good hG hw1 hw2 (hG.1.le r1) (hG.1.le r2) hU1 hU2 ho hi (fun u h9 h8 => by have h7 := hV1.trans h9; have h6 := hV2.trans h8; first | (cases h7; done) | (cases h6; done) | exact hc9 ⟨by simp, h7.trans h6.symm⟩) hT1 hT2 (by rw [← hV1, ← hV2]; exact hJ)
          have hlen : (L : List Nat).length = L.length + 0 := rfl
          refine kk _ ls _ _ _ _ ⟨lv_sub hl [9, 8, 7] rfl, (tLk Sv5 v), L, vr, D, kn1, (((k + 1) + 1) + 1), hr9, hgj, hKc0, hCec0, hLm, hvm, (by rw [hS1c0]; exact Nat.le_refl _), (fun v9 => ⟨Or.inl, fun h9 => h9.elim id (fun h8 => absurd h8.2 (Nat.not_lt.2 (by rw [hS1c0]; exact h8.1)))⟩), hppc0, by omega, (hnw0.trans hK0c0 (mNw.rf _ _)), by (try dsimp only); omega, by (try dsimp only); omega, by omega, hmec0, htec0, by omega, fun z hz1 hz2 hz3 => Classical.byContradiction fun h9 => hz3 (by rw [hnnc0 z hz1 h9]; exact hz2)⟩ hM hS
      · skip
        have hbe : b1 = b2 := by first | exact Option.some.inj c_23 | exact c_23
        exfalso; rw [hbe] at hc3v; rw [hz2] at hc3v; exact absurd (mr_inj (Option.some.inj hc3v)).1 (by decide)
    · skip
      obtain ⟨hDv, hsv, hbv, hLv, hcv⟩ := hE1
      have hc3v := hex3.at hcv
      obtain ⟨hDw, hsw, hbw, hLw, hcw⟩ := hE2
      have hc3w := hex3.at hcw
      refine lv_aload hx hb dX2_sameRows_59 (lv_at hl 5 rfl) ?_
      refine va_get (D := Z.1) (ci := 22) (v := .int 0) (C := RX27) (T := TX27) (N := 7) hx hb hts in_X27 hown hE.1 (hM.at hc3v) 0 rfl mm_cX27 0 (by decide) (hts _ q2577) (fun _ h9 => h9) rfl dX2_sameRows_61 ?_
      refine lv_if_ne (tgt := 71) hx hb dX2_sameRows_64 (by decide) (fun h9 => absurd (by decide) h9) (fun _ => ?_)
      refine lv_iconst (v := 1) hx hb dX2_sameRows_67 (by decide) ?_
      refine lv_goto (tgt := 72) hx hb dX2_sameRows_68 (by decide) ?_
      refine lv_istore hx hb dX2_sameRows_72 hl (by decide) rfl (fun ls hl => ?_)
      replace hl : lv_has ls 14 [(11, .int 1), (10, .int its), (9, .int own), (8, .int B2), (7, .int B1), (6, .ref b2), (5, .ref b1), (4, .ref q_5), (3, .ref q_1), (0, .ref md), (1, .ref a1), (2, .ref a2)] := hl
      refine lv_aload hx hb dX2_sameRows_74 (lv_at hl 5 rfl) ?_
      refine va_get (D := Z.1) (ci := 22) (v := .int 0) (C := RX27) (T := TX27) (N := 7) hx hb hts in_X27 hown hE.1 (hM.at hc3w) 0 rfl mm_cX27 0 (by decide) (hts _ q2577) (fun _ h9 => h9) rfl dX2_sameRows_76 ?_
      refine lv_if_ne (tgt := 86) hx hb dX2_sameRows_79 (by decide) (fun h9 => absurd (by decide) h9) (fun _ => ?_)
      refine lv_iconst (v := 1) hx hb dX2_sameRows_82 (by decide) ?_
      refine lv_goto (tgt := 87) hx hb dX2_sameRows_83 (by decide) ?_
      refine lv_istore hx hb dX2_sameRows_87 hl (by decide) rfl (fun ls hl => ?_)
      replace hl : lv_has ls 14 [(12, .int 1), (11, .int 1), (10, .int its), (9, .int own), (8, .int B2), (7, .int B1), (6, .ref b2), (5, .ref b1), (4, .ref q_5), (3, .ref q_1), (0, .ref md), (1, .ref a1), (2, .ref a2)] := hl
      refine lv_iload hx hb dX2_sameRows_89 (lv_at hl 3 rfl) ?_
      refine mm_cutM (pc2 := 119) (rest2 := []) (A := A) (Z := Z) (H0 := s.heap) (fun M' ls' c2 s2 => M_15 = M' ∧ lv_has ls' 14 [(12, .int 1), (11, .int 1), (10, .int its), (9, .int own), (6, .ref b2), (5, .ref b1), (4, .ref q_5), (3, .ref q_1), (0, .ref md)] ∧ c2 ≤ 2 ∧ s2 ≤ 20 ∧ ((own = 0 ∨ (some w : Option Nat) ≠ none) ∧ (its = 0 ∨ (some v : Option Nat) ≠ none))) (fun kk9 => ?_) (fun M' ls H locs cells2 slots2 hI9 hM hS => ?_)
      · skip
        refine lv_if_eq (tgt := 99) hx hb dX2_sameRows_91 (by decide) (fun c_23 => ?_) (fun c_23 => ?_)
        · skip
          refine lv_iload hx hb dX2_sameRows_99 (lv_at hl 2 rfl) ?_
          refine lv_if_eq (tgt := 119) hx hb dX2_sameRows_101 (by decide) (fun c_24 => ?_) (fun c_24 => ?_)
          · skip
            exact kk9 _ _ _ _ _ _ ⟨rfl, lv_sub hl [0, 1, 2, 3, 6, 7, 8, 9, 10] rfl, by (try dsimp only); omega, by (try dsimp only); omega, by simp [c_23, c_24]⟩ hM hS
          · skip
            refine lv_iload hx hb dX2_sameRows_104 (lv_at hl 1 rfl) ?_
            refine lv_if_ne (tgt := 119) hx hb dX2_sameRows_106 (by decide) (fun _ => ?_) (fun h9 => absurd h9 (by decide))
            exact kk9 _ _ _ _ _ _ ⟨rfl, lv_sub hl [0, 1, 2, 3, 6, 7, 8, 9, 10] rfl, by (try dsimp only); omega, by (try dsimp only); omega, by simp [c_23, c_24]⟩ hM hS
        · skip
          refine lv_iload hx hb dX2_sameRows_94 (lv_at hl 0 rfl) ?_
          refine lv_if_eq (tgt := 109) hx hb dX2_sameRows_96 (by decide) (fun h9 => absurd h9 (by decide)) (fun _ => ?_)
          refine lv_iload hx hb dX2_sameRows_99 (lv_at hl 2 rfl) ?_
          refine lv_if_eq (tgt := 119) hx hb dX2_sameRows_101 (by decide) (fun c_24 => ?_) (fun c_24 => ?_)
          · skip
            exact kk9 _ _ _ _ _ _ ⟨rfl, lv_sub hl [0, 1, 2, 3, 6, 7, 8, 9, 10] rfl, by (try dsimp only); omega, by (try dsimp only); omega, by simp [c_23, c_24]⟩ hM hS
          · skip
            refine lv_iload hx hb dX2_sameRows_104 (lv_at hl 1 rfl) ?_
            refine lv_if_ne (tgt := 119) hx hb dX2_sameRows_106 (by decide) (fun _ => ?_) (fun h9 => absurd h9 (by decide))
            exact kk9 _ _ _ _ _ _ ⟨rfl, lv_sub hl [0, 1, 2, 3, 6, 7, 8, 9, 10] rfl, by (try dsimp only); omega, by (try dsimp only); omega, by simp [c_23, c_24]⟩ hM hS
      obtain ⟨rfl, hl, hcc9, hss9, hC1⟩ := hI9
      rw [if_neg (not_not_intro hC1)] at hr9
      refine mm_cutM (pc2 := 150) (rest2 := []) (A := A) (Z := Z) (H0 := s.heap) (fun M' ls' c2 s2 => M_15 = M' ∧ lv_has ls' 14 [(12, .int 1), (11, .int 1), (10, .int its), (9, .int own), (6, .ref b2), (5, .ref b1), (4, .ref q_5), (3, .ref q_1), (0, .ref md)] ∧ c2 ≤ 2 ∧ s2 ≤ 20 ∧ ((own = 0 ∨ ∀ w9, (some w : Option Nat) = some w9 → S.2.2.2.1 w9 &&& own = 0) ∧ (its = 0 ∨ ∀ v9, (some v : Option Nat) = some v9 → S.2.2.2.1 v9 &&& its = 0))) (fun kk9 => ?_) (fun M' ls H locs cells2 slots2 hI9 hM hS => ?_)
      · skip
        refine lv_iload hx hb dX2_sameRows_119 (lv_at hl 3 rfl) ?_
        refine lv_aload hx hb dX2_sameRows_121 (lv_at hl 4 rfl) ?_
        refine va_get (D := Z.1) (ci := 22) (v := .int (S.2.2.2.1 w)) (C := RX27) (T := TX27) (N := 7) hx hb hts in_X27 hown hE.1 (hM.at hc3w) 0 rfl mm_cX27 5 (by decide) (hts _ q2583) (fun _ h9 => h9) rfl dX2_sameRows_123 ?_
        refine lv_iand hx hb dX2_sameRows_126 ?_
        rw [show (own &&& (S.2.2.2.1 w) : Int32) = (S.2.2.2.1 w) &&& own from Int32.and_comm _ _]
        refine lv_if_ne (tgt := 141) hx hb dX2_sameRows_127 (by decide) (fun c_23 => ?_) (fun c_23 => ?_)
        · skip
          have hC9 : ¬ ((own = 0 ∨ ∀ w9, (some w : Option Nat) = some w9 → S.2.2.2.1 w9 &&& own = 0) ∧ (its = 0 ∨ ∀ v9, (some v : Option Nat) = some v9 → S.2.2.2.1 v9 &&& its = 0)) := by
            intro h9
            rcases h9.1 with h8 | h8
            · exact c_23 (by rw [h8]; exact Int32.and_zero)
            · exact c_23 (h8 w rfl)
          rw [if_pos hC9] at hr9
          refine mm_new (D := Z.1) (ci := 21) (fs := mm_f0X26) (C := RX26) (T := TX26) (N := 7) hx hb hts in_X26 tyX26 tyX26_ok hown (hts _ q2492) (hts _ q2530) (hts _ q99) hE.1 hM hS hA mm_cX26 mm_dfX26 (by (try dsimp only); omega) (by (try dsimp only); omega) dX2_sameRows_141 (fun q_25 H nq_24 hM hS => ?_)
          have hM : mm_P Z.1 mm_cl A (mm_U M_15 q_25 (.inr (21, [.null, .null, .null, .null, .null, .int 0, .int 0]))) H := hM
          have ne_26 : b1 ≠ q_25 := (mm_neN hc3v nq_24)
          have ne_27 : b2 ≠ q_25 := (mm_neN hc3w nq_24)
          have hc_28 : (mm_U M_15 q_25 (.inr (21, [.null, .null, .null, .null, .null, .int 0, .int 0]))) q_25 = some (.inr (21, [.null, .null, .null, .null, .null, .int 0, .int 0])) := mm_U_eq
          have hc_29 : (mm_U M_15 q_25 (.inr (21, [.null, .null, .null, .null, .null, .int 0, .int 0]))) b1 = some (.inr (22, [.int 0, .null, .int 0, .null, .null, .int (S.2.2.2.1 v), .int (mm_b (S.2.2.1 v))])) := (mm_U_ne ne_26).trans hc3v
          have hc_30 : (mm_U M_15 q_25 (.inr (21, [.null, .null, .null, .null, .null, .int 0, .int 0]))) b2 = some (.inr (22, [.int 0, .null, .int 0, .null, .null, .int (S.2.2.2.1 w), .int (mm_b (S.2.2.1 w))])) := (mm_U_ne ne_27).trans hc3w
          obtain ⟨M_31, eM_31⟩ : ∃ z, z = mm_U M_15 q_25 (.inr (21, [.null, .null, .null, .null, .null, .int 0, .int 0])) := ⟨_, rfl⟩
          rw [← eM_31] at hM hc_29 hc_30 hc_28
          refine lv_dup hx hb dX2_sameRows_144 rfl ?_
          refine lv_iconst (v := 4) hx hb dX2_sameRows_145 (by decide) ?_
          refine mm_callI (As := [.int 4]) (rest := [.ref q_25]) ⟨hx, hb, hml, hown, hts⟩ hE hST hA (c_X26_init l Z (er := 4) hc_28) (cwI (maxL := 2) 1 hts (lw_meth q2540) rfl rfl rfl (hts _ q99) (hts _ q2538) (hts _ q2539) rfl (by decide +kernel) ⟨(by (try dsimp only); omega), (by (try dsimp only); omega)⟩) hM hS rfl hl.1 (Nat.le_of_ble_eq_true rfl) dX2_sameRows_146 rfl ⟨(by (try dsimp only); omega), (by (try dsimp only); omega)⟩ (fun _ _ _ _ _ _ h9 => h9.elim) (fun v_32 M_33 H locs hp_34 hM hS => ?_)
          obtain ⟨rfl, eM_33⟩ := hp_34
          rw [eM_33] at hM
          have hc_35 : (mm_U M_31 q_25 (.inr (21, [.null, .null, .null, .null, .null, .int 0, .int 4]))) q_25 = some (.inr (21, [.null, .null, .null, .null, .null, .int 0, .int 4])) := mm_U_eq
          have hc_36 : (mm_U M_31 q_25 (.inr (21, [.null, .null, .null, .null, .null, .int 0, .int 4]))) b1 = some (.inr (22, [.int 0, .null, .int 0, .null, .null, .int (S.2.2.2.1 v), .int (mm_b (S.2.2.1 v))])) := (mm_U_ne ne_26).trans hc_29
          have hc_37 : (mm_U M_31 q_25 (.inr (21, [.null, .null, .null, .null, .null, .int 0, .int 4]))) b2 = some (.inr (22, [.int 0, .null, .int 0, .null, .null, .int (S.2.2.2.1 w), .int (mm_b (S.2.2.1 w))])) := (mm_U_ne ne_27).trans hc_30
          obtain ⟨M_38, eM_38⟩ : ∃ z, z = mm_U M_31 q_25 (.inr (21, [.null, .null, .null, .null, .null, .int 0, .int 4])) := ⟨_, rfl⟩
          rw [← eM_38] at hM hc_36 hc_37 hc_35
          exact mm_athrowD hx hb htab hlk hE hM hS hc_35 mm_cX26 ⟨4, (Option.some.inj hr9).symm, (mX.of ⟨rfl, nq_24, by subst eM_38 eM_31 eM_10 eM_4; simp only [mm_U_U]⟩).after hex3.mK⟩ dX2_sameRows_149 (by (try dsimp only); omega) (by (try dsimp only); omega)
        · skip
          refine lv_iload hx hb dX2_sameRows_130 (lv_at hl 2 rfl) ?_
          refine lv_aload hx hb dX2_sameRows_132 (lv_at hl 5 rfl) ?_
          refine va_get (D := Z.1) (ci := 22) (v := .int (S.2.2.2.1 v)) (C := RX27) (T := TX27) (N := 7) hx hb hts in_X27 hown hE.1 (hM.at hc3v) 0 rfl mm_cX27 5 (by decide) (hts _ q2583) (fun _ h9 => h9) rfl dX2_sameRows_134 ?_
          refine lv_iand hx hb dX2_sameRows_137 ?_
          rw [show (its &&& (S.2.2.2.1 v) : Int32) = (S.2.2.2.1 v) &&& its from Int32.and_comm _ _]
          refine lv_if_eq (tgt := 150) hx hb dX2_sameRows_138 (by decide) (fun c_24 => ?_) (fun c_24 => ?_)
          · skip
            exact kk9 _ _ _ _ _ _ ⟨rfl, lv_sub hl [0, 1, 2, 3, 4, 5, 6, 7, 8] rfl, by (try dsimp only); omega, by (try dsimp only); omega, Or.inr (fun w9 e9 => by cases e9; exact c_23), Or.inr (fun w9 e9 => by cases e9; exact c_24)⟩ hM hS
          · skip
            have hC9 : ¬ ((own = 0 ∨ ∀ w9, (some w : Option Nat) = some w9 → S.2.2.2.1 w9 &&& own = 0) ∧ (its = 0 ∨ ∀ v9, (some v : Option Nat) = some v9 → S.2.2.2.1 v9 &&& its = 0)) := by
              intro h9
              rcases h9.2 with h8 | h8
              · exact c_24 (by rw [h8]; exact Int32.and_zero)
              · exact c_24 (h8 v rfl)
            rw [if_pos hC9] at hr9
            refine mm_new (D := Z.1) (ci := 21) (fs := mm_f0X26) (C := RX26) (T := TX26) (N := 7) hx hb hts in_X26 tyX26 tyX26_ok hown (hts _ q2492) (hts _ q2530) (hts _ q99) hE.1 hM hS hA mm_cX26 mm_dfX26 (by (try dsimp only); omega) (by (try dsimp only); omega) dX2_sameRows_141 (fun q_26 H nq_25 hM hS => ?_)
            have hM : mm_P Z.1 mm_cl A (mm_U M_15 q_26 (.inr (21, [.null, .null, .null, .null, .null, .int 0, .int 0]))) H := hM
            have ne_27 : b1 ≠ q_26 := (mm_neN hc3v nq_25)
            have ne_28 : b2 ≠ q_26 := (mm_neN hc3w nq_25)
            have hc_29 : (mm_U M_15 q_26 (.inr (21, [.null, .null, .null, .null, .null, .int 0, .int 0]))) q_26 = some (.inr (21, [.null, .null, .null, .null, .null, .int 0, .int 0])) := mm_U_eq
            have hc_30 : (mm_U M_15 q_26 (.inr (21, [.null, .null, .null, .null, .null, .int 0, .int 0]))) b1 = some (.inr (22, [.int 0, .null, .int 0, .null, .null, .int (S.2.2.2.1 v), .int (mm_b (S.2.2.1 v))])) := (mm_U_ne ne_27).trans hc3v
            have hc_31 : (mm_U M_15 q_26 (.inr (21, [.null, .null, .null, .null, .null, .int 0, .int 0]))) b2 = some (.inr (22, [.int 0, .null, .int 0, .null, .null, .int (S.2.2.2.1 w), .int (mm_b (S.2.2.1 w))])) := (mm_U_ne ne_28).trans hc3w
            obtain ⟨M_32, eM_32⟩ : ∃ z, z = mm_U M_15 q_26 (.inr (21, [.null, .null, .null, .null, .null, .int 0, .int 0])) := ⟨_, rfl⟩
            rw [← eM_32] at hM hc_30 hc_31 hc_29
            refine lv_dup hx hb dX2_sameRows_144 rfl ?_
            refine lv_iconst (v := 4) hx hb dX2_sameRows_145 (by decide) ?_
            refine mm_callI (As := [.int 4]) (rest := [.ref q_26]) ⟨hx, hb, hml, hown, hts⟩ hE hST hA (c_X26_init l Z (er := 4) hc_29) (cwI (maxL := 2) 1 hts (lw_meth q2540) rfl rfl rfl (hts _ q99) (hts _ q2538) (hts _ q2539) rfl (by decide +kernel) ⟨(by (try dsimp only); omega), (by (try dsimp only); omega)⟩) hM hS rfl hl.1 (Nat.le_of_ble_eq_true rfl) dX2_sameRows_146 rfl ⟨(by (try dsimp only); omega), (by (try dsimp only); omega)⟩ (fun _ _ _ _ _ _ h9 => h9.elim) (fun v_33 M_34 H locs hp_35 hM hS => ?_)
            obtain ⟨rfl, eM_34⟩ := hp_35
            rw [eM_34] at hM
            have hc_36 : (mm_U M_32 q_26 (.inr (21, [.null, .null, .null, .null, .null, .int 0, .int 4]))) q_26 = some (.inr (21, [.null, .null, .null, .null, .null, .int 0, .int 4])) := mm_U_eq
            have hc_37 : (mm_U M_32 q_26 (.inr (21, [.null, .null, .null, .null, .null, .int 0, .int 4]))) b1 = some (.inr (22, [.int 0, .null, .int 0, .null, .null, .int (S.2.2.2.1 v), .int (mm_b (S.2.2.1 v))])) := (mm_U_ne ne_27).trans hc_30
            have hc_38 : (mm_U M_32 q_26 (.inr (21, [.null, .null, .null, .null, .null, .int 0, .int 4]))) b2 = some (.inr (22, [.int 0, .null, .int 0, .null, .null, .int (S.2.2.2.1 w), .int (mm_b (S.2.2.1 w))])) := (mm_U_ne ne_28).trans hc_31
            obtain ⟨M_39, eM_39⟩ : ∃ z, z = mm_U M_32 q_26 (.inr (21, [.null, .null, .null, .null, .null, .int 0, .int 4])) := ⟨_, rfl⟩
            rw [← eM_39] at hM hc_37 hc_38 hc_36
            exact mm_athrowD hx hb htab hlk hE hM hS hc_36 mm_cX26 ⟨4, (Option.some.inj hr9).symm, (mX.of ⟨rfl, nq_25, by subst eM_39 eM_32 eM_10 eM_4; simp only [mm_U_U]⟩).after hex3.mK⟩ dX2_sameRows_149 (by (try dsimp only); omega) (by (try dsimp only); omega)
      obtain ⟨rfl, hl, hcc9, hss9, hC2⟩ := hI9
      rw [if_neg (not_not_intro hC2)] at hr9
      have hbb9 : True := trivial
      refine lv_aload hx hb dX2_sameRows_150 (lv_at hl 5 rfl) ?_
      refine lv_aload hx hb dX2_sameRows_152 (lv_at hl 4 rfl) ?_
      refine lv_acmp_ne (rx := (some b1)) (ry := (some b2)) (tgt := 174) hx hb dX2_sameRows_154 (by decide) (fun c_23 => ?_) (fun c_23 => ?_)
      · skip
        have hbn : b1 ≠ b2 := fun h9 => by first | exact c_23 h9 | exact c_23 (congrArg some h9)
        refine lv_aload hx hb dX2_sameRows_174 (lv_at hl 5 rfl) ?_
        refine lv_aload hx hb dX2_sameRows_176 (lv_at hl 4 rfl) ?_
        refine lv_acmp_eq (rx := (some b1)) (ry := (some b2)) (tgt := 327) hx hb dX2_sameRows_178 (by decide) (fun c_24 => ?_) (fun c_24 => ?_)
        · skip
          exact absurd (Option.some.inj c_24) hbn
        · skip
          refine mm_new (D := Z.1) (ci := 22) (fs := mm_f0X27) (C := RX27) (T := TX27) (N := 7) hx hb hts in_X27 tyX27 tyX27_ok hown (hts _ q2561) (hts _ q2571) (hts _ q100) hE.1 hM hS hA mm_cX27 mm_dfX27 (by (try dsimp only); omega) (by (try dsimp only); omega) dX2_sameRows_181 (fun q_26 H nq_25 hM hS => ?_)
          have hM : mm_P Z.1 mm_cl A (mm_U M_15 q_26 (.inr (22, [.int 0, .null, .int 0, .null, .null, .int 0, .int 0]))) H := hM
          have ne_27 : b1 ≠ q_26 := (mm_neN hc3v nq_25)
          have ne_28 : b2 ≠ q_26 := (mm_neN hc3w nq_25)
          have hc_29 : (mm_U M_15 q_26 (.inr (22, [.int 0, .null, .int 0, .null, .null, .int 0, .int 0]))) q_26 = some (.inr (22, [.int 0, .null, .int 0, .null, .null, .int 0, .int 0])) := mm_U_eq
          have hc_30 : (mm_U M_15 q_26 (.inr (22, [.int 0, .null, .int 0, .null, .null, .int 0, .int 0]))) b1 = some (.inr (22, [.int 0, .null, .int 0, .null, .null, .int (S.2.2.2.1 v), .int (mm_b (S.2.2.1 v))])) := (mm_U_ne ne_27).trans hc3v
          have hc_31 : (mm_U M_15 q_26 (.inr (22, [.int 0, .null, .int 0, .null, .null, .int 0, .int 0]))) b2 = some (.inr (22, [.int 0, .null, .int 0, .null, .null, .int (S.2.2.2.1 w), .int (mm_b (S.2.2.1 w))])) := (mm_U_ne ne_28).trans hc3w
          obtain ⟨M_32, eM_32⟩ : ∃ z, z = mm_U M_15 q_26 (.inr (22, [.int 0, .null, .int 0, .null, .null, .int 0, .int 0])) := ⟨_, rfl⟩
          rw [← eM_32] at hM hc_30 hc_31 hc_29
          refine lv_dup hx hb dX2_sameRows_184 rfl ?_
          refine lv_iconst (v := 1) hx hb dX2_sameRows_185 (by decide) ?_
          refine mm_callI (As := [.int 1]) (rest := [.ref q_26]) ⟨hx, hb, hml, hown, hts⟩ hE hST hA (c_X27_init l Z (x1 := 1) hc_29) (cwI (maxL := 2) 1 hts (lw_meth q2574) rfl rfl rfl (hts _ q100) (hts _ q2572) (hts _ q2573) rfl (by decide +kernel) ⟨(by (try dsimp only); omega), (by (try dsimp only); omega)⟩) hM hS rfl hl.1 (Nat.le_of_ble_eq_true rfl) dX2_sameRows_186 rfl ⟨(by (try dsimp only); omega), (by (try dsimp only); omega)⟩ (fun _ _ _ _ _ _ h9 => h9.elim) (fun v_33 M_34 H locs hp_35 hM hS => ?_)
          obtain ⟨rfl, eM_34⟩ := hp_35
          rw [eM_34] at hM
          have hc_36 : (mm_U M_32 q_26 (.inr (22, [.int 1, .null, .int 0, .null, .null, .int 0, .int 0]))) q_26 = some (.inr (22, [.int 1, .null, .int 0, .null, .null, .int 0, .int 0])) := mm_U_eq
          have hc_37 : (mm_U M_32 q_26 (.inr (22, [.int 1, .null, .int 0, .null, .null, .int 0, .int 0]))) b1 = some (.inr (22, [.int 0, .null, .int 0, .null, .null, .int (S.2.2.2.1 v), .int (mm_b (S.2.2.1 v))])) := (mm_U_ne ne_27).trans hc_30
          have hc_38 : (mm_U M_32 q_26 (.inr (22, [.int 1, .null, .int 0, .null, .null, .int 0, .int 0]))) b2 = some (.inr (22, [.int 0, .null, .int 0, .null, .null, .int (S.2.2.2.1 w), .int (mm_b (S.2.2.1 w))])) := (mm_U_ne ne_28).trans hc_31
          obtain ⟨M_39, eM_39⟩ : ∃ z, z = mm_U M_32 q_26 (.inr (22, [.int 1, .null, .int 0, .null, .null, .int 0, .int 0])) := ⟨_, rfl⟩
          rw [← eM_39] at hM hc_37 hc_38 hc_36
          have hexz : mm_Ext M_15 M_39 := by subst eM_39 eM_32; rw [mm_U_U]; exact mm_Ext.U nq_25
          have hzz : M_39 q_26 = some (mr_E 1 none 0 none none 0 false) := hc_36
          have hCz := hC3.ext hexz
          have hSz := hSt3.ext hC3 hexz
          have hmdz := hexz.at hmd3
          have hnz : ∀ z, M z ≠ none → mnext M_39 z = mnext M_15 z := fun z hz => by unfold mnext; rw [hexz z (hex3.mK.hasN hz)]
          have hc9 : ¬ ((some v : Option Nat) ≠ none ∧ (some v : Option Nat) = some w) := fun h9 => by have h8 := Option.some.inj h9.2; subst h8; exact hbn (hbv.trans hbw.symm)
          rw [if_neg hc9, if_pos (by simp)] at hr9
          have hlt9 : ∀ u9, D u9 = true → u9 ≠ S.1 := fun u9 h9 => Nat.ne_of_lt (hC.1.2.2.2.2.1 u9 h9)
          have hvw9 : v ≠ w := fun e => hbn (by rw [hbv, hbw, e])
          refine lv_astore hx hb dX2_sameRows_189 hl (by decide) rfl (fun ls hl => ?_)
          replace hl : lv_has ls 14 [(13, .ref q_26), (12, .int 1), (11, .int 1), (10, .int its), (9, .int own), (6, .ref b2), (5, .ref b1), (4, .ref q_5), (3, .ref q_1), (0, .ref md)] := hl
          refine lv_iload hx hb dX2_sameRows_191 (lv_at hl 2 rfl) ?_
          refine lv_if_eq (tgt := 243) hx hb dX2_sameRows_193 (by decide) (fun h9 => absurd h9 (by decide)) (fun _ => ?_)
          refine lv_iload hx hb dX2_sameRows_196 (lv_at hl 1 rfl) ?_
          refine lv_if_eq (tgt := 243) hx hb dX2_sameRows_198 (by decide) (fun h9 => absurd h9 (by decide)) (fun _ => ?_)
          refine lv_aload hx hb dX2_sameRows_201 (lv_at hl 6 rfl) ?_
          refine va_get (D := Z.1) (ci := 22) (v := .int (S.2.2.2.1 v)) (C := RX27) (T := TX27) (N := 7) hx hb hts in_X27 hown hE.1 (hM.at hc_37) 0 rfl mm_cX27 5 (by decide) (hts _ q2583) (fun _ h9 => h9) rfl dX2_sameRows_203 ?_
          refine lv_aload hx hb dX2_sameRows_206 (lv_at hl 5 rfl) ?_
          refine va_get (D := Z.1) (ci := 22) (v := .int (S.2.2.2.1 w)) (C := RX27) (T := TX27) (N := 7) hx hb hts in_X27 hown hE.1 (hM.at hc_38) 0 rfl mm_cX27 5 (by decide) (hts _ q2583) (fun _ h9 => h9) rfl dX2_sameRows_208 ?_
          refine lv_ior hx hb dX2_sameRows_211 ?_
          refine mm_callS (As := [.int ((S.2.2.2.1 v) ||| (S.2.2.2.1 w))]) (rest := []) ⟨hx, hb, hml, hown, hts⟩ hE hST hA (c_X2_lacking l Z (x1 := S.2.2.2.1 v ||| S.2.2.2.1 w)) (va_cwS 1 hts (lw_S q2568 q2569 q54 q2570) rfl rfl rfl (by decide +kernel) ⟨(by (try dsimp only); omega), (by (try dsimp only); omega)⟩) hM hS rfl hl.1 (Nat.le_of_ble_eq_true rfl) dX2_sameRows_212 rfl ⟨(by (try dsimp only); omega), (by (try dsimp only); omega)⟩ (fun _ _ _ _ _ _ h9 => h9.elim) (fun v_40 M_41 H locs hp_42 hM hS => ?_)
          obtain ⟨qn, hqn, rfl, eM_41⟩ := hp_42
          have hexn : mm_Ext M_39 M_41 := by rw [eM_41]; exact mm_Ext.U hqn
          have hcn : M_41 qn = some (mr_E 0 none 0 none none (S.2.2.2.1 v ||| S.2.2.2.1 w) false) := by rw [eM_41]; exact mm_U_eq
          have hn1v := hexn.at (hexz.at hc3v)
          have hn1w := hexn.at (hexz.at hc3w)
          refine lv_astore hx hb dX2_sameRows_215 hl (by decide) rfl (fun ls hl => ?_)
          replace hl : lv_has ls 14 [(13, .ref qn), (12, .int 1), (11, .int 1), (10, .int its), (9, .int own), (6, .ref b2), (5, .ref b1), (4, .ref q_5), (3, .ref q_1), (0, .ref md)] := hl
          refine lv_aload hx hb dX2_sameRows_217 (lv_at hl 0 rfl) ?_
          refine mm_cutW (v0 := mm_b (S.2.2.1 v || S.2.2.1 w)) (pc2 := 240) (ls := ls) (rest := [.ref qn]) (M := M_41) (fun kk => ?_) (fun H locs hM hS => ?_) hM hS
          · skip
            refine lv_aload hx hb dX2_sameRows_219 (lv_at hl 6 rfl) ?_
            refine va_get (D := Z.1) (ci := 22) (v := .int (mm_b (S.2.2.1 v))) (C := RX27) (T := TX27) (N := 7) hx hb hts in_X27 hown hE.1 (hM.at hn1v) 0 rfl mm_cX27 6 (by decide) (hts _ q2584) (fun _ h9 => h9) rfl dX2_sameRows_221 ?_
            refine lv_if_ne (tgt := 235) hx hb dX2_sameRows_224 (by decide) (fun c_43 => ?_) (fun c_43 => ?_)
            · skip
              refine lv_iconst (v := 1) hx hb dX2_sameRows_235 (by decide) ?_
              refine lv_goto (tgt := 240) hx hb dX2_sameRows_236 (by decide) ?_
              exact kk _ _ _ hM hS (show (mm_b (S.2.2.1 v || S.2.2.1 w) : Int32) = 1 from by (first | (rw [mm_b_n c_43]; rfl) | (rw [mm_b_n c_43, Bool.or_true]; rfl) | (rw [mm_b_z c_43, mm_b_z c_43]; rfl))).symm
            · skip
              refine lv_aload hx hb dX2_sameRows_227 (lv_at hl 5 rfl) ?_
              refine va_get (D := Z.1) (ci := 22) (v := .int (mm_b (S.2.2.1 w))) (C := RX27) (T := TX27) (N := 7) hx hb hts in_X27 hown hE.1 (hM.at hn1w) 0 rfl mm_cX27 6 (by decide) (hts _ q2584) (fun _ h9 => h9) rfl dX2_sameRows_229 ?_
              refine lv_if_eq (tgt := 239) hx hb dX2_sameRows_232 (by decide) (fun c_44 => ?_) (fun c_44 => ?_)
              · skip
                refine lv_iconst (v := 0) hx hb dX2_sameRows_239 (by decide) ?_
                exact kk _ _ _ hM hS (show (mm_b (S.2.2.1 v || S.2.2.1 w) : Int32) = 0 from by (first | (rw [mm_b_n c_43]; rfl) | (rw [mm_b_n c_44, Bool.or_true]; rfl) | (rw [mm_b_z c_43, mm_b_z c_44]; rfl))).symm
              · skip
                refine lv_iconst (v := 1) hx hb dX2_sameRows_235 (by decide) ?_
                refine lv_goto (tgt := 240) hx hb dX2_sameRows_236 (by decide) ?_
                exact kk _ _ _ hM hS (show (mm_b (S.2.2.1 v || S.2.2.1 w) : Int32) = 1 from by (first | (rw [mm_b_n c_43]; rfl) | (rw [mm_b_n c_44, Bool.or_true]; rfl) | (rw [mm_b_z c_43, mm_b_z c_44]; rfl))).symm
          refine mm_put (D := Z.1) (ci := 22) (v := .int (mm_b (S.2.2.1 v || S.2.2.1 w))) (ty := .boolean) (C := RX27) (T := TX27) (N := 7) hx hb hts in_X27 tyX27 tyX27_ok nmX27 hown hE.1 hM hS hcn mm_cX27 6 (by decide) (hts _ q2584) (fun _ h9 => h9) rfl (by decide +kernel) (mm_b_nar _) (mm_b_fit _) (Nat.le_of_ble_eq_true rfl) dX2_sameRows_240 (fun H locs hM hS => ?_)
          have hM : mm_P Z.1 mm_cl A (mm_U M_41 qn (.inr (22, [.int 0, .null, .int 0, .null, .null, .int (S.2.2.2.1 v ||| S.2.2.2.1 w), .int (mm_b (S.2.2.1 v || S.2.2.1 w))]))) H := hM
          have hc_43 : (mm_U M_41 qn (.inr (22, [.int 0, .null, .int 0, .null, .null, .int (S.2.2.2.1 v ||| S.2.2.2.1 w), .int (mm_b (S.2.2.1 v || S.2.2.1 w))]))) qn = some (.inr (22, [.int 0, .null, .int 0, .null, .null, .int (S.2.2.2.1 v ||| S.2.2.2.1 w), .int (mm_b (S.2.2.1 v || S.2.2.1 w))])) := mm_U_eq
          obtain ⟨M_44, eM_44⟩ : ∃ z, z = mm_U M_41 qn (.inr (22, [.int 0, .null, .int 0, .null, .null, .int (S.2.2.2.1 v ||| S.2.2.2.1 w), .int (mm_b (S.2.2.1 v || S.2.2.1 w))])) := ⟨_, rfl⟩
          rw [← eM_44] at hM hc_43
          have hcell : M_44 qn = some (mr_E 0 none 0 none none (S.2.2.2.1 v ||| S.2.2.2.1 w) (S.2.2.1 v || S.2.2.1 w)) := hc_43
          have hexp : mm_Ext M_39 M_44 := fun q9 h9 => by rw [eM_44, mm_U_ne (fun e => h9 (by rw [e]; exact hqn)), eM_41, mm_U_ne (fun e => h9 (by rw [e]; exact hqn))]
          have hex0 : mm_Ext M_15 M_44 := hexz.trans hexp
          have hq30 : M_15 qn = none := Classical.byContradiction fun h9 => by have h8 := hexz qn h9; rw [hqn] at h8; exact h9 h8.symm
          have hDn : D S.1 = false := by cases h8 : D S.1 with | false => rfl | true => exact absurd rfl (hlt9 _ h8)
          have hsn : S.2.1 S.1 = .var S.1 := hC.1.2.2.2.1 _ (Nat.le_refl _)
          obtain ⟨hC0, hP0⟩ := hC3.newVar (S' := (ts_new S (umi (S.2.2.2.2 v) (S.2.2.2.2 w)) (S.2.2.1 v || S.2.2.1 w) (S.2.2.2.1 v ||| S.2.2.2.1 w))) hex0 hq30 (Nat.le_succ _) rfl (Nat.lt_succ_self _) hDn hsn (fun u9 h9 => ⟨if_neg (hlt9 u9 h9), if_neg (hlt9 u9 h9)⟩) (Or.inr (by rw [hcell]; simp [ts_new]))
          have hLm : ∀ a ∈ L, a ∈ (qn :: L) := fun a h => List.mem_cons_of_mem _ h
          have hvm : ∀ u9, D u9 = true → (mD D S.1) u9 = true ∧ (uvr vr S.1 qn) u9 = vr u9 := fun u9 h9 => ⟨mD_o h9, if_neg (hlt9 u9 h9)⟩
          have hSt0 : mSt M_44 (qn :: L) k := hSt3.grow hC3 hex0 (fun k9 is9 fr9 to9 rw9 cm9 sn9 cp9 h9 => by rw [hcell] at h9; exact absurd (Option.some.inj h9).symm mt_ne_mr)
          have hmd0 := hex0.at hmd3
          have hnw0 : mNw M_44 L (qn :: L) := fun a h1 h2 => by rcases List.mem_cons.1 h1 with rfl | h1; exact ⟨_, _, _, hcell⟩; exact absurd h1 h2
          have hter : mtp M_44 (qn :: L) (uvr vr S.1 qn) (mD D S.1) (.var S.1) true qn := by unfold mtp; exact ⟨mD_n, (if_pos rfl : uvr vr S.1 qn S.1 = qn).symm, List.mem_cons_self, _, _, _, hcell⟩
          have hnrb : mnext M_44 qn = none := mnext_r hcell
          have hle0 : ts_le S (ts_new S (umi (S.2.2.2.2 v) (S.2.2.2.2 w)) (S.2.2.1 v || S.2.2.1 w) (S.2.2.2.1 v ||| S.2.2.2.1 w)) := fun t9 => hC.1.1.le t9
          have hB0 : mB M_44 (qn :: L) (uvr vr S.1 qn) (mD D S.1) (ts_new S (umi (S.2.2.2.2 v) (S.2.2.2.2 w)) (S.2.2.1 v || S.2.2.1 w) (S.2.2.2.1 v ||| S.2.2.2.1 w)) b := hB3.goR hC3 hC0 hex0.mK hLm hvm hle0 hnw0
          have hn0 : ∀ z, M z ≠ none → mnext M_44 z = mnext M z := fun z hz => by unfold mnext; rw [hex0 z (hex3.mK.hasN hz), hex3 z hz]
          refine lv_iload hx hb dX2_sameRows_243 (lv_at hl 1 rfl) ?_
          refine lv_if_eq (tgt := 259) hx hb dX2_sameRows_245 (by decide) (fun h9 => absurd h9 (by decide)) (fun _ => ?_)
          refine lv_aload_n hx hb dX2_sameRows_248 rfl (lv_at hl 9 rfl) ?_
          refine lv_aload hx hb dX2_sameRows_249 (lv_at hl 5 rfl) ?_
          refine lv_aload_n hx hb dX2_sameRows_251 rfl (lv_at hl 8 rfl) ?_
          refine lv_iload hx hb dX2_sameRows_252 (lv_at hl 4 rfl) ?_
          refine lv_aload hx hb dX2_sameRows_254 (lv_at hl 0 rfl) ?_
          have hXw5 : mXG M_44 (qn :: L) (uvr vr S.1 qn) (mD D S.1) g1 y1 := hX31.mono (hex0.mK) hLm hvm
          have hD9w : (mD D S.1) w = true := (hvm w hDw).1
          have havw : (uvr vr S.1 qn) w = b2 := (hvm w hDw).2.trans hbw.symm
          have hsuw : (ts_new S (umi (S.2.2.2.2 v) (S.2.2.2.2 w)) (S.2.2.1 v || S.2.2.1 w) (S.2.2.2.1 v ||| S.2.2.2.1 w)).2.1 w = .var w := hsw
          obtain ⟨is9w, cm9w, hrww⟩ := (hex0.mK).R hc3w
          have hvOw := hC0.rootR hD9w hsuw havw hrww
          have hsew : (ts_new S (umi (S.2.2.2.2 v) (S.2.2.2.2 w)) (S.2.2.1 v || S.2.2.1 w) (S.2.2.2.1 v ||| S.2.2.2.1 w)).2.1 S.1 = .var S.1 := hsn
          have hoew : uoc w (uap (ts_new S (umi (S.2.2.2.2 v) (S.2.2.2.2 w)) (S.2.2.1 v || S.2.2.1 w) (S.2.2.2.1 v ||| S.2.2.2.1 w)).2.1 (.var S.1)) = false := by show uoc w ((ts_new S (umi (S.2.2.2.2 v) (S.2.2.2.2 w)) (S.2.2.1 v || S.2.2.1 w) (S.2.2.2.1 v ||| S.2.2.2.1 w)).2.1 S.1) = false; rw [hsew]; simp [uoc, Ne.symm (hlt9 w hDw)]
          refine mm_callVD (As := [.ref b2, .ref q_1, .int own, .ref qn]) (rest := []) ⟨hx, hb, hml, hown, hts⟩ hE hST hA (d_X2_endsRowA l Z (S := (ts_new S (umi (S.2.2.2.2 v) (S.2.2.2.2 w)) (S.2.2.1 v || S.2.2.1 w) (S.2.2.2.1 v ||| S.2.2.2.1 w))) (v := w) (av := b2) (q := q_1) (rb := qn) (st9 := own) (g := g1) (f := y1) (er := (.var S.1)) (R9 := usome F1 own (.var S.1) 10) (Hh := Hh) hmd0 hSt0 (by omega) hC0 hD9w havw hvOw ((hex0.mK).atA hA31) hXw5 hs1 hter hnrb hoew (usome_le (hle0) hg1) (hXw5.hh hC0 hB0 hH)) (cwV 4 hts (lw_V q2682 q2684 qs41 q54 q2685) rfl rfl rfl (by decide +kernel) ⟨(by (try dsimp only); omega), (by (try dsimp only); omega)⟩) hM hS mm_cX2 hmd0 rfl hl.1 (Nat.le_of_ble_eq_true rfl) dX2_sameRows_256 rfl ⟨(by (try dsimp only); omega), (by (try dsimp only); omega)⟩ (fun E ce q M9 H1 locs1 hp9 hM9 hS9 hce hcv hcl => by have hj9 : tJoin S F1 F2 (some v) (some w) own its = .inl 3 := (by unfold tJoin te_b; dsimp only; rw [hp9.1]); rw [hj9] at hr9; exact mm_outxD htab hlk hM9 hS9 hce hcv hcl ⟨3, (Option.some.inj hr9).symm, hp9.2.after (hex3.mK.trans (hex0.mK))⟩ (by (try dsimp only); omega) (by (try dsimp only); omega)) (fun v_45 M_46 n_48 k_49 H locs hp_47 hM hS => ?_)
          obtain ⟨rfl, hn9w5, hk9w5, Sw5, hclw5, hsgw5, hlkw5, hlcw5, hKew5, hCew5, hSew5, hPew5, hnew5, hpew5, hmew5, htew5⟩ := hp_47
          obtain ⟨hlsw5, hokw5⟩ := mClose_le hC0.1.1 hclw5
          have hlew5 : ts_le S Sw5 := (hle0).trans hlsw5
          have hKw5 := (hex0.mK).trans hKew5
          have hBw5 := (hB0).goR hC0 hCew5 hKew5 (fun _ h => h) (fun _ h => ⟨h, rfl⟩) hlsw5 (mNw.rf _ _)
          have hrqw5 : qn ≠ b2 := fun e => by rw [e] at hq30; rw [hq30] at hc3w; cases hc3w
          have hrbw5 : mnext M_46 qn = none := (hnew5 _ (hter).has hrqw5).trans hnrb
          have herw5 := mtp.mono hKew5 (fun _ h => h) (fun _ h => ⟨h, rfl⟩) _ _ _ hter
          have hnnw5 : ∀ z, M z ≠ none → ¬ mVar M z → mnext M_46 z = mnext M z := fun z hz hv9 => by rw [hnew5 z ((hex0.mK).hasN (hex3.mK.hasN hz)) (fun e => hv9 (by rw [e, hbw]; exact hC.isVar hDw)), hn0 z hz]
          have hppw5 : mPd (mD D S.1) (ts_new S (umi (S.2.2.2.2 v) (S.2.2.2.2 w)) (S.2.2.1 v || S.2.2.1 w) (S.2.2.2.1 v ||| S.2.2.2.1 w)) Sw5 := hpew5
          have hS1w5 : Sw5.1 = (ts_new S (umi (S.2.2.2.2 v) (S.2.2.2.2 w)) (S.2.2.1 v || S.2.2.1 w) (S.2.2.2.1 v ||| S.2.2.2.1 w)).1 := hSew5
          refine lv_iload hx hb dX2_sameRows_259 (lv_at hl 2 rfl) ?_
          refine lv_if_eq (tgt := 276) hx hb dX2_sameRows_261 (by decide) (fun h9 => absurd h9 (by decide)) (fun _ => ?_)
          refine lv_aload_n hx hb dX2_sameRows_264 rfl (lv_at hl 9 rfl) ?_
          refine lv_aload hx hb dX2_sameRows_265 (lv_at hl 6 rfl) ?_
          refine lv_aload hx hb dX2_sameRows_267 (lv_at hl 7 rfl) ?_
          refine lv_iload hx hb dX2_sameRows_269 (lv_at hl 3 rfl) ?_
          refine lv_aload hx hb dX2_sameRows_271 (lv_at hl 0 rfl) ?_
          have hXv5 : mXG M_46 (qn :: L) (uvr vr S.1 qn) (mD D S.1) g2 y2 := hX32.mono (hKw5) hLm hvm
          have hD9v : (mD D S.1) v = true := (hvm v hDv).1
          have havv : (uvr vr S.1 qn) v = b1 := (hvm v hDv).2.trans hbv.symm
          have hsuv : Sw5.2.1 v = .var v := (mClose_var hC0.1.1 (hsw : (ts_new S (umi (S.2.2.2.2 v) (S.2.2.2.2 w)) (S.2.2.1 v || S.2.2.1 w) (S.2.2.2.1 v ||| S.2.2.2.1 w)).2.1 w = .var w) hclw5).2 v (hsv) hvw9
          obtain ⟨is9v, cm9v, hrwv⟩ := (hKw5).R hc3v
          have hvOv := hCew5.rootR hD9v hsuv havv hrwv
          have hsev : Sw5.2.1 S.1 = .var S.1 := (mClose_var hC0.1.1 (hsw : (ts_new S (umi (S.2.2.2.2 v) (S.2.2.2.2 w)) (S.2.2.1 v || S.2.2.1 w) (S.2.2.2.1 v ||| S.2.2.2.1 w)).2.1 w = .var w) hclw5).2 S.1 hsn (Ne.symm (hlt9 w hDw))
          have hoev : uoc v (uap Sw5.2.1 (.var S.1)) = false := by show uoc v (Sw5.2.1 S.1) = false; rw [hsev]; simp [uoc, Ne.symm (hlt9 v hDv)]
          refine mm_callVD (As := [.ref b1, .ref q_5, .int its, .ref qn]) (rest := []) ⟨hx, hb, hml, hown, hts⟩ hE hST hA (d_X2_endsRowA l Z (S := Sw5) (v := v) (av := b1) (q := q_5) (rb := qn) (st9 := its) (g := g2) (f := y2) (er := (.var S.1)) (R9 := usome F2 its (.var S.1) 10) (Hh := Hh) hmew5 htew5 (by omega) hCew5 hD9v havv hvOv ((hKw5).atA hA32) hXv5 hs2 herw5 hrbw5 hoev (usome_le (hlew5) hg2) (hXv5.hh hCew5 hBw5 hH)) (cwV 4 hts (lw_V q2682 q2684 qs41 q54 q2685) rfl rfl rfl (by decide +kernel) ⟨(by (try dsimp only); omega), (by (try dsimp only); omega)⟩) hM hS mm_cX2 hmew5 rfl hl.1 (Nat.le_of_ble_eq_true rfl) dX2_sameRows_273 rfl ⟨(by (try dsimp only); omega), (by (try dsimp only); omega)⟩ (fun E ce q M9 H1 locs1 hp9 hM9 hS9 hce hcv hcl => by have hj9 : tJoin S F1 F2 (some v) (some w) own its = .inl 3 := (by unfold tJoin te_b; dsimp only; rw [hclw5]; dsimp only; rw [hp9.1]); rw [hj9] at hr9; exact mm_outxD htab hlk hM9 hS9 hce hcv hcl ⟨3, (Option.some.inj hr9).symm, hp9.2.after (hex3.mK.trans (hKw5))⟩ (by (try dsimp only); omega) (by (try dsimp only); omega)) (fun v_50 M_51 n_53 k_54 H locs hp_52 hM hS => ?_)
          obtain ⟨rfl, hn9v5, hk9v5, Sv5, hclv5, hsgv5, hlkv5, hlcv5, hKev5, hCev5, hSev5, hPev5, hnev5, hpev5, hmev5, htev5⟩ := hp_52
          obtain ⟨hlsv5, hokv5⟩ := mClose_le hokw5 hclv5
          have hlev5 : ts_le S Sv5 := (hlew5).trans hlsv5
          have hKv5 := (hKw5).trans hKev5
          have hBv5 := (hBw5).goR hCew5 hCev5 hKev5 (fun _ h => h) (fun _ h => ⟨h, rfl⟩) hlsv5 (mNw.rf _ _)
          have hrqv5 : qn ≠ b1 := fun e => by rw [e] at hq30; rw [hq30] at hc3v; cases hc3v
          have hrbv5 : mnext M_51 qn = none := (hnev5 _ (herw5).has hrqv5).trans hrbw5
          have herv5 := mtp.mono hKev5 (fun _ h => h) (fun _ h => ⟨h, rfl⟩) _ _ _ herw5
          have hnnv5 : ∀ z, M z ≠ none → ¬ mVar M z → mnext M_51 z = mnext M z := fun z hz hv9 => by rw [hnev5 z ((hKw5).hasN (hex3.mK.hasN hz)) (fun e => hv9 (by rw [e, hbv]; exact hC.isVar hDv)), hnnw5 z hz hv9]
          have hppv5 : mPd (mD D S.1) (ts_new S (umi (S.2.2.2.2 v) (S.2.2.2.2 w)) (S.2.2.1 v || S.2.2.1 w) (S.2.2.2.1 v ||| S.2.2.2.1 w)) Sv5 := hppw5.trans hpev5 (by rw [hSew5]; exact Nat.le_refl _)
          have hS1v5 : Sv5.1 = (ts_new S (umi (S.2.2.2.2 v) (S.2.2.2.2 w)) (S.2.2.1 v || S.2.2.1 w) (S.2.2.2.1 v ||| S.2.2.2.1 w)).1 := hSev5.trans hS1w5
          have hK0 : mK M_44 M_51 := (((mK.rf _).trans hKew5).trans hKev5)
          have hlkE : Sv5.2.2.1 = (ts_new S (umi (S.2.2.2.2 v) (S.2.2.2.2 w)) (S.2.2.1 v || S.2.2.1 w) (S.2.2.2.1 v ||| S.2.2.2.1 w)).2.2.1 := hlkv5.trans hlkw5
          have hseE : Sv5.2.1 S.1 = .var S.1 := (mClose_var hokw5 hsuv hclv5).2 S.1 hsev (Ne.symm (hlt9 v hDv))
          have hkn : Sv5.2.2.1 S.1 = (S.2.2.1 v || S.2.2.1 w) := by rw [hlkE]; exact if_pos rfl
          have hkv : Sv5.2.2.1 v = S.2.2.1 v := by rw [hlkE]; exact if_neg (hlt9 v hDv)
          have hkw : Sv5.2.2.1 w = S.2.2.1 w := by rw [hlkE]; exact if_neg (hlt9 w hDw)
          have hXc1 := hX31.mono (hKv5) hLm hvm
          obtain ⟨is8w, cm8w, hrvw⟩ := (hKv5).R hc3w
          obtain ⟨is7w, hq7w⟩ := hCev5.rootR2 hD9w havw hrvw
          refine lv_aload_n hx hb dX2_sameRows_276 rfl (lv_at hl 9 rfl) ?_
          refine lv_iload hx hb dX2_sameRows_277 (lv_at hl 1 rfl) ?_
          refine lv_if_eq (tgt := 294) hx hb dX2_sameRows_279 (by decide) (fun h9 => absurd h9 (by decide)) (fun _ => ?_)
          refine mm_cutW (v0 := mm_b (Sv5.2.2.1 w)) (pc2 := 295) (ls := ls) (rest := [.ref md]) (M := M_51) (fun kk => ?_) (fun H locs hM hS => ?_) hM hS
          · skip
            refine lv_aload hx hb dX2_sameRows_282 (lv_at hl 5 rfl) ?_
            refine va_get (D := Z.1) (ci := 22) (v := .int (mm_b (Sv5.2.2.1 w))) (C := RX27) (T := TX27) (N := 7) hx hb hts in_X27 hown hE.1 (hM.at hq7w) 0 rfl mm_cX27 6 (by decide) (hts _ q2584) (fun _ h9 => h9) rfl dX2_sameRows_284 ?_
            refine lv_if_eq (tgt := 294) hx hb dX2_sameRows_287 (by decide) (fun c_55 => ?_) (fun c_55 => ?_)
            · skip
              refine lv_iconst (v := 0) hx hb dX2_sameRows_294 (by decide) ?_
              exact kk _ _ _ hM hS (show (mm_b (Sv5.2.2.1 w) : Int32) = 0 from by (first | exact c_55 | (rw [mm_b_n c_55]; rfl))).symm
            · skip
              refine lv_iconst (v := 1) hx hb dX2_sameRows_290 (by decide) ?_
              refine lv_goto (tgt := 295) hx hb dX2_sameRows_291 (by decide) ?_
              exact kk _ _ _ hM hS (show (mm_b (Sv5.2.2.1 w) : Int32) = 1 from by (first | exact c_55 | (rw [mm_b_n c_55]; rfl))).symm
          have hl2c1 : ts_le Sw5 Sv5 := hlsv5
          have hl3c1 : ts_le (ts_new S (umi (S.2.2.2.2 v) (S.2.2.2.2 w)) (S.2.2.1 v || S.2.2.1 w) (S.2.2.2.1 v ||| S.2.2.2.1 w)) Sv5 := hlsw5.trans hl2c1
          have hl1c1 : ts_le S Sv5 := hlev5
          have hsgc1 := (mClose_var hC0.1.1 (hsw : (ts_new S (umi (S.2.2.2.2 v) (S.2.2.2.2 w)) (S.2.2.1 v || S.2.2.1 w) (S.2.2.2.1 v ||| S.2.2.2.1 w)).2.1 w = .var w) hclw5).1
          have hTc1 := mT_eq hsgc1 hl2c1 hl3c1 (usome_le hl1c1 hg1 (st := own) (er := (.var S.1)))
          have hsxc1 := hseE
          have hy2c1 : Sv5.2.2.1 w = true → ∀ u9, uoc u9 (uap Sv5.2.1 (.var S.1)) = true → Sv5.2.2.1 u9 = true := fun h9 u9 h8 => by
            replace h8 : uoc u9 (Sv5.2.1 S.1) = true := h8
            rw [hseE] at h8; simp only [uoc, beq_iff_eq] at h8; rw [← h8, hkn]; rw [hkw] at h9; rw [h9, Bool.or_true]
          refine lv_aload_n hx hb dX2_sameRows_295 rfl (lv_at hl 8 rfl) ?_
          refine lv_iload hx hb dX2_sameRows_296 (lv_at hl 4 rfl) ?_
          refine mm_callVD (As := [.int (mm_b (Sv5.2.2.1 w)), .ref q_1, .int own]) (rest := []) ⟨hx, hb, hml, hown, hts⟩ hE hST hA (d_X2_comparesAll l Z (S := Sv5) (iz := Sv5.2.2.1 w) (q := q_1) (st9 := own) (g := g1) (f := y1) (er := (.var S.1)) (T := Sv5.2.1 w) (Hh := Hh) hmev5 htev5 (by omega) hCev5 ((hKv5).atA hA31) hXc1 hs1 hTc1 (by show uhf (Sv5.2.1 S.1) = false; rw [hsxc1]; rfl) hy2c1 (hXc1.hh hCev5 hBv5 hH)) (cwV 3 hts (lw_V q2689 q2691 qs42 q54 q2692) rfl rfl rfl (by decide +kernel) ⟨(by (try dsimp only); omega), (by (try dsimp only); omega)⟩) hM hS mm_cX2 hmev5 rfl hl.1 (Nat.le_of_ble_eq_true rfl) dX2_sameRows_298 rfl ⟨(by (try dsimp only); omega), (by (try dsimp only); omega)⟩ (fun E ce q M9 H1 locs1 hp9 hM9 hS9 hce hcv hcl => by have hj9 : tJoin S F1 F2 (some v) (some w) own its = .inl 5 := (by unfold tJoin te_b; dsimp only; rw [hclw5]; dsimp only; rw [hclv5]; dsimp only; rw [tLk_5 hp9.1 hp9.2.1]); rw [hj9] at hr9; exact mm_outxD htab hlk hM9 hS9 hce hcv hcl ⟨5, (Option.some.inj hr9).symm, hp9.2.2.after (hex3.mK.trans (hKv5))⟩ (by (try dsimp only); omega) (by (try dsimp only); omega)) (fun v_55 M_56 n_58 k_59 H locs hp_57 hM hS => ?_)
          obtain ⟨rfl, rfl, rfl, hhfc1, hKec1, hCec1, hnec1, hmec1, htec1⟩ := hp_57
          replace hCec1 : mCI M_56 (qn :: L) (uvr vr S.1 qn) (mD D S.1) (tLk Sv5 w) := hCec1
          have hKc1 := (hKv5).trans hKec1
          have hPcc1 : mPhi M_56 (qn :: L) = mPhi M_51 (qn :: L) := by unfold mPhi; exact List.countP_congr fun z hz => by obtain ⟨m9, t9, h9⟩ := hCev5.2.2.1 z hz; rw [hnec1 z h9.has]
          have hnnc1 : ∀ z, M z ≠ none → ¬ mVar M z → mnext M_56 z = mnext M z := fun z hz hv9 => by rw [hnec1 z ((hKv5).hasN (hex3.mK.hasN hz)), hnnv5 z hz hv9]
          have hBc1 : mB M_56 (qn :: L) (uvr vr S.1 qn) (mD D S.1) (tLk Sv5 w) b := (hBv5).goR hCev5 hCec1 hKec1 (fun _ h => h) (fun _ h => ⟨h, rfl⟩) (tLk_le hokv5).1 (mNw.rf _ _)
          have hlec1 : ts_le S (tLk Sv5 w) := (hlev5).trans (tLk_le hokv5).1
          have hokc1 := (tLk_le hokv5 (v := w)).2
          have hppc1 : mPd (mD D S.1) (ts_new S (umi (S.2.2.2.2 v) (S.2.2.2.2 w)) (S.2.2.1 v || S.2.2.1 w) (S.2.2.2.1 v ||| S.2.2.2.1 w)) (tLk Sv5 w) := (hppv5).trans (mPd.lk hCev5 hD9w) (by rw [hS1v5]; exact Nat.le_refl _)
          have hS1c1 : (tLk Sv5 w).1 = (ts_new S (umi (S.2.2.2.2 v) (S.2.2.2.2 w)) (S.2.2.1 v || S.2.2.1 w) (S.2.2.2.1 v ||| S.2.2.2.1 w)).1 := (tLk_1 _ _).1.trans hS1v5
          have hK0c1 : mK M_44 M_56 := hK0.trans hKec1
          have hXc0 := hX32.mono (hKc1) hLm hvm
          obtain ⟨is8v, cm8v, hrvv⟩ := (hKc1).R hc3v
          obtain ⟨is7v, hq7v⟩ := hCec1.rootR2 hD9v havv hrvv
          refine lv_aload_n hx hb dX2_sameRows_301 rfl (lv_at hl 9 rfl) ?_
          refine lv_iload hx hb dX2_sameRows_302 (lv_at hl 2 rfl) ?_
          refine lv_if_eq (tgt := 319) hx hb dX2_sameRows_304 (by decide) (fun h9 => absurd h9 (by decide)) (fun _ => ?_)
          refine mm_cutW (v0 := mm_b ((tLk Sv5 w).2.2.1 v)) (pc2 := 320) (ls := ls) (rest := [.ref md]) (M := M_56) (fun kk => ?_) (fun H locs hM hS => ?_) hM hS
          · skip
            refine lv_aload hx hb dX2_sameRows_307 (lv_at hl 6 rfl) ?_
            refine va_get (D := Z.1) (ci := 22) (v := .int (mm_b ((tLk Sv5 w).2.2.1 v))) (C := RX27) (T := TX27) (N := 7) hx hb hts in_X27 hown hE.1 (hM.at hq7v) 0 rfl mm_cX27 6 (by decide) (hts _ q2584) (fun _ h9 => h9) rfl dX2_sameRows_309 ?_
            refine lv_if_eq (tgt := 319) hx hb dX2_sameRows_312 (by decide) (fun c_60 => ?_) (fun c_60 => ?_)
            · skip
              refine lv_iconst (v := 0) hx hb dX2_sameRows_319 (by decide) ?_
              exact kk _ _ _ hM hS (show (mm_b ((tLk Sv5 w).2.2.1 v) : Int32) = 0 from by (first | exact c_60 | (rw [mm_b_n c_60]; rfl))).symm
            · skip
              refine lv_iconst (v := 1) hx hb dX2_sameRows_315 (by decide) ?_
              refine lv_goto (tgt := 320) hx hb dX2_sameRows_316 (by decide) ?_
              exact kk _ _ _ hM hS (show (mm_b ((tLk Sv5 w).2.2.1 v) : Int32) = 1 from by (first | exact c_60 | (rw [mm_b_n c_60]; rfl))).symm
          have hl2c0 : ts_le Sv5 (tLk Sv5 w) := hokv5.le.trans (tLk_le hokv5).1
          have hl3c0 : ts_le Sw5 (tLk Sv5 w) := hlsv5.trans hl2c0
          have hl1c0 : ts_le S (tLk Sv5 w) := hlec1
          have hsgc0 := (mClose_var hokw5 hsuv hclv5).1
          have hTc0 := mT_eq hsgc0 hl2c0 hl3c0 (usome_le hl1c0 hg2 (st := its) (er := (.var S.1)))
          have hsxc0 : (tLk Sv5 w).2.1 S.1 = .var S.1 := by rw [(tLk_1 Sv5 w).2.1]; exact hseE
          have hy2c0 : (tLk Sv5 w).2.2.1 v = true → ∀ u9, uoc u9 (uap (tLk Sv5 w).2.1 (.var S.1)) = true → (tLk Sv5 w).2.2.1 u9 = true := fun h9 u9 h8 => by
            replace h8 : uoc u9 ((tLk Sv5 w).2.1 S.1) = true := h8
            rw [hsxc0] at h8; simp only [uoc, beq_iff_eq] at h8; rw [← h8]
            refine (tLk_1 Sv5 w).2.2.2 S.1 ?_
            rw [hkn]
            cases h6 : S.2.2.1 w with
            | true => rw [Bool.or_true]
            | false =>
              have h5 : tLk Sv5 w = Sv5 := by unfold tLk; rw [hkw, h6]; rfl
              rw [h5, hkv] at h9; rw [h9]; rfl
          refine lv_aload hx hb dX2_sameRows_320 (lv_at hl 7 rfl) ?_
          refine lv_iload hx hb dX2_sameRows_322 (lv_at hl 3 rfl) ?_
          refine mm_callVD (As := [.int (mm_b ((tLk Sv5 w).2.2.1 v)), .ref q_5, .int its]) (rest := []) ⟨hx, hb, hml, hown, hts⟩ hE hST hA (d_X2_comparesAll l Z (S := (tLk Sv5 w)) (iz := (tLk Sv5 w).2.2.1 v) (q := q_5) (st9 := its) (g := g2) (f := y2) (er := (.var S.1)) (T := (tLk Sv5 w).2.1 v) (Hh := Hh) hmec1 htec1 (by omega) hCec1 ((hKc1).atA hA32) hXc0 hs2 hTc0 (by show uhf ((tLk Sv5 w).2.1 S.1) = false; rw [hsxc0]; rfl) hy2c0 (hXc0.hh hCec1 hBc1 hH)) (cwV 3 hts (lw_V q2689 q2691 qs42 q54 q2692) rfl rfl rfl (by decide +kernel) ⟨(by (try dsimp only); omega), (by (try dsimp only); omega)⟩) hM hS mm_cX2 hmec1 rfl hl.1 (Nat.le_of_ble_eq_true rfl) dX2_sameRows_324 rfl ⟨(by (try dsimp only); omega), (by (try dsimp only); omega)⟩ (fun E ce q M9 H1 locs1 hp9 hM9 hS9 hce hcv hcl => by have hj9 : tJoin S F1 F2 (some v) (some w) own its = .inl 5 := (by unfold tJoin te_b; dsimp only; rw [hclw5]; dsimp only; rw [hclv5]; dsimp only; rw [tLk_eq hhfc1]; dsimp only; rw [tLk_5 hp9.1 hp9.2.1]); rw [hj9] at hr9; exact mm_outxD htab hlk hM9 hS9 hce hcv hcl ⟨5, (Option.some.inj hr9).symm, hp9.2.2.after (hex3.mK.trans (hKc1))⟩ (by (try dsimp only); omega) (by (try dsimp only); omega)) (fun v_60 M_61 n_63 k_64 H locs hp_62 hM hS => ?_)
          obtain ⟨rfl, rfl, rfl, hhfc0, hKec0, hCec0, hnec0, hmec0, htec0⟩ := hp_62
          replace hCec0 : mCI M_61 (qn :: L) (uvr vr S.1 qn) (mD D S.1) (tLk (tLk Sv5 w) v) := hCec0
          have hKc0 := (hKc1).trans hKec0
          have hPcc0 : mPhi M_61 (qn :: L) = mPhi M_56 (qn :: L) := by unfold mPhi; exact List.countP_congr fun z hz => by obtain ⟨m9, t9, h9⟩ := hCec1.2.2.1 z hz; rw [hnec0 z h9.has]
          have hnnc0 : ∀ z, M z ≠ none → ¬ mVar M z → mnext M_61 z = mnext M z := fun z hz hv9 => by rw [hnec0 z ((hKc1).hasN (hex3.mK.hasN hz)), hnnc1 z hz hv9]
          have hBc0 : mB M_61 (qn :: L) (uvr vr S.1 qn) (mD D S.1) (tLk (tLk Sv5 w) v) b := (hBc1).goR hCec1 hCec0 hKec0 (fun _ h => h) (fun _ h => ⟨h, rfl⟩) (tLk_le hokc1).1 (mNw.rf _ _)
          have hlec0 : ts_le S (tLk (tLk Sv5 w) v) := (hlec1).trans (tLk_le hokc1).1
          have hokc0 := (tLk_le hokc1 (v := v)).2
          have hppc0 : mPd (mD D S.1) (ts_new S (umi (S.2.2.2.2 v) (S.2.2.2.2 w)) (S.2.2.1 v || S.2.2.1 w) (S.2.2.2.1 v ||| S.2.2.2.1 w)) (tLk (tLk Sv5 w) v) := (hppc1).trans (mPd.lk hCec1 hD9v) (by rw [hS1c1]; exact Nat.le_refl _)
          have hS1c0 : (tLk (tLk Sv5 w) v).1 = (ts_new S (umi (S.2.2.2.2 v) (S.2.2.2.2 w)) (S.2.2.1 v || S.2.2.1 w) (S.2.2.2.1 v ||| S.2.2.2.1 w)).1 := (tLk_1 _ _).1.trans hS1c1
          have hK0c0 : mK M_44 M_61 := hK0c1.trans hKec0
          have hJ : tJoin S F1 F2 (some v) (some w) own its = .inr (tLk (tLk Sv5 w) v) := by unfold tJoin te_b; dsimp only; rw [hclw5]; dsimp only; rw [hclv5]; dsimp only; rw [tLk_eq hhfc1]; dsimp only; rw [tLk_eq hhfc0]
          rw [hJ] at hr9
          have hT1 : ∀ w, uend (uap S.2.1 r2) = some w → ∀ l, l < 10 → uhs (S.2.2.2.1 w) l = true → uhs own l = false := by
            intro w9 hw9 l hl9 h1
            rcases hC2.1 with h9 | h9
            · rw [h9]; exact uhs_0 hl9
            · have h8 := h9 w9 (hV2.trans hw9)
              have h7 : uhs (S.2.2.2.1 w9 &&& own) l = false := by rw [h8]; exact uhs_0 hl9
              rw [uhs_and hl9, h1, Bool.true_and] at h7; exact h7
          have hT2 : ∀ w, uend (uap S.2.1 r1) = some w → ∀ l, l < 10 → uhs (S.2.2.2.1 w) l = true → uhs its l = false := by
            intro w9 hw9 l hl9 h1
            rcases hC2.2 with h9 | h9
            · rw [h9]; exact uhs_0 hl9
            · have h8 := h9 w9 (hV1.trans hw9)
              have h7 : uhs (S.2.2.2.1 w9 &&& its) l = false := by rw [h8]; exact uhs_0 hl9
              rw [uhs_and hl9, h1, Bool.true_and] at h7; exact h7
          obtain ⟨kn1, hgj, -⟩ := tJoin_good hG hw1 hw2 (hG.1.le r1) (hG.1.le r2) hU1 hU2 ho hi (fun u h9 h8 => by have h7 := hV1.trans h9; have h6 := hV2.trans h8; first | (cases h7; done) | (cases h6; done) | exact hc9 ⟨by simp, h7.trans h6.symm⟩) hT1 hT2 (by rw [← hV1, ← hV2]; exact hJ)
          have hDD9 : ∀ v9, mD D S.1 v9 = true ↔ D v9 = true ∨ (S.1 ≤ v9 ∧ v9 < (tLk (tLk Sv5 w) v).1) := fun v9 => by
            rw [hS1c0]
            show mD D S.1 v9 = true ↔ D v9 = true ∨ (S.1 ≤ v9 ∧ v9 < S.1 + 1)
            constructor
            · intro h; rcases mD_c h with h | h; exact Or.inr (by omega); exact Or.inl h
            · rintro (h | h); exact mD_o h; exact (show v9 = S.1 by omega) ▸ mD_n
          have hlen : ((qn :: L) : List Nat).length = L.length + 1 := rfl
          refine kk _ ls _ _ _ _ ⟨lv_sub hl [9, 8, 7] rfl, (tLk (tLk Sv5 w) v), (qn :: L), (uvr vr S.1 qn), (mD D S.1), kn1, ((((k + 1) + 1) + 1) + 1), hr9, hgj, hKc0, hCec0, hLm, hvm, (by rw [hS1c0]; exact Nat.le_succ _), hDD9, hppc0.new, by omega, (hnw0.trans hK0c0 (mNw.rf _ _)), by (try dsimp only); omega, by (try dsimp only); omega, by omega, hmec0, htec0, by omega, fun z hz1 hz2 hz3 => Classical.byContradiction fun h9 => hz3 (by rw [hnnc0 z hz1 h9]; exact hz2)⟩ hM hS
      · skip
        have hbe : b1 = b2 := by first | exact Option.some.inj c_23 | exact c_23
        refine lv_iload hx hb dX2_sameRows_157 (lv_at hl 3 rfl) ?_
        refine lv_iload hx hb dX2_sameRows_159 (lv_at hl 2 rfl) ?_
        refine lv_ior hx hb dX2_sameRows_161 ?_
        have hvw : v = w := hC.1.2.2.1 v w hDv hDw (hbv.symm.trans (hbe.trans hbw))
        subst hvw
        rw [if_pos ⟨by simp, rfl⟩] at hr9
        refine lv_if_eq (tgt := 174) hx hb dX2_sameRows_162 (by decide) (fun c_24 => ?_) (fun c_24 => ?_)
        · skip
          rw [if_pos c_24] at hr9
          refine lv_aload hx hb dX2_sameRows_174 (lv_at hl 5 rfl) ?_
          refine lv_aload hx hb dX2_sameRows_176 (lv_at hl 4 rfl) ?_
          refine lv_acmp_eq (rx := (some b1)) (ry := (some b2)) (tgt := 327) hx hb dX2_sameRows_178 (by decide) (fun c_25 => ?_) (fun c_25 => ?_)
          rotate_left
          · skip
            exact absurd (congrArg some hbe) c_25
          · skip
            have hzz9 : ∀ z, M z ≠ none → mnext M z = none → mnext M_15 z ≠ none → mVar M z := fun z hz1 hz2 hz3 => absurd (by unfold mnext; rw [hex3 z hz1]; exact hz2) hz3
            have hph9 := hP3
            refine kk _ ls _ _ _ _ ⟨lv_sub hl [8, 7, 6] rfl, S, L, vr, D, kn, k, by exact hr9, uGo.rf hG, mK.rf _, hC3, fun _ h => h, fun _ h => ⟨h, rfl⟩, Nat.le_refl _, fun v9 => ⟨Or.inl, fun h9 => h9.elim id (fun h8 => absurd h8.2 (Nat.not_lt.2 h8.1))⟩, mPd.rf _ _, Nat.le_of_eq hph9, mNw.rf _ _, by (try dsimp only); omega, by (try dsimp only); omega, by omega, hmd3, hSt3, by omega, hzz9⟩ hM hS
        · skip
          rw [if_neg c_24] at hr9
          refine mm_new (D := Z.1) (ci := 21) (fs := mm_f0X26) (C := RX26) (T := TX26) (N := 7) hx hb hts in_X26 tyX26 tyX26_ok hown (hts _ q2492) (hts _ q2530) (hts _ q99) hE.1 hM hS hA mm_cX26 mm_dfX26 (by (try dsimp only); omega) (by (try dsimp only); omega) dX2_sameRows_165 (fun q_26 H nq_25 hM hS => ?_)
          have hM : mm_P Z.1 mm_cl A (mm_U M_15 q_26 (.inr (21, [.null, .null, .null, .null, .null, .int 0, .int 0]))) H := hM
          have hc_27 : (mm_U M_15 q_26 (.inr (21, [.null, .null, .null, .null, .null, .int 0, .int 0]))) q_26 = some (.inr (21, [.null, .null, .null, .null, .null, .int 0, .int 0])) := mm_U_eq
          obtain ⟨M_28, eM_28⟩ : ∃ z, z = mm_U M_15 q_26 (.inr (21, [.null, .null, .null, .null, .null, .int 0, .int 0])) := ⟨_, rfl⟩
          rw [← eM_28] at hM hc_27
          refine lv_dup hx hb dX2_sameRows_168 rfl ?_
          refine lv_iconst (v := 3) hx hb dX2_sameRows_169 (by decide) ?_
          refine mm_callI (As := [.int 3]) (rest := [.ref q_26]) ⟨hx, hb, hml, hown, hts⟩ hE hST hA (c_X26_init l Z (er := 3) hc_27) (cwI (maxL := 2) 1 hts (lw_meth q2540) rfl rfl rfl (hts _ q99) (hts _ q2538) (hts _ q2539) rfl (by decide +kernel) ⟨(by (try dsimp only); omega), (by (try dsimp only); omega)⟩) hM hS rfl hl.1 (Nat.le_of_ble_eq_true rfl) dX2_sameRows_170 rfl ⟨(by (try dsimp only); omega), (by (try dsimp only); omega)⟩ (fun _ _ _ _ _ _ h9 => h9.elim) (fun v_29 M_30 H locs hp_31 hM hS => ?_)
          obtain ⟨rfl, eM_30⟩ := hp_31
          rw [eM_30] at hM
          have hc_32 : (mm_U M_28 q_26 (.inr (21, [.null, .null, .null, .null, .null, .int 0, .int 3]))) q_26 = some (.inr (21, [.null, .null, .null, .null, .null, .int 0, .int 3])) := mm_U_eq
          obtain ⟨M_33, eM_33⟩ : ∃ z, z = mm_U M_28 q_26 (.inr (21, [.null, .null, .null, .null, .null, .int 0, .int 3])) := ⟨_, rfl⟩
          rw [← eM_33] at hM hc_32
          exact mm_athrowD hx hb htab hlk hE hM hS hc_32 mm_cX26 ⟨3, (Option.some.inj hr9).symm, (mX.of ⟨rfl, nq_25, by subst eM_33 eM_28 eM_10 eM_4; simp only [mm_U_U]⟩).after hex3.mK⟩ dX2_sameRows_173 (by (try dsimp only); omega) (by (try dsimp only); omega)
  obtain ⟨hl, S1, L1, vr1, D1, kn1, k1, hr1, hgo, hK1, hCC1, hLL1, hvv1, hnn1, hDD1, hpd1, hPP1, hNw1, hcc1, hss1, hln1, hmd1, hSt1, hkk1, hzz1⟩ := hI
  refine lv_iconst (v := 0) hx hb dX2_sameRows_327 (by decide) ?_
  refine lv_istore hx hb dX2_sameRows_328 hl (by decide) rfl (fun ls hl => ?_)
  replace hl : lv_has ls 14 [(13, .int 0), (0, .ref md), (3, .ref q_1), (4, .ref q_5)] := hl
  refine mm_loopW (fun kx M' ls' c2 s2 => ∃ i, kx = 10 - i ∧ i ≤ 10 ∧ lv_has ls' 14 [(13, .int (nI i)), (0, .ref md), (3, .ref q_1), (4, .ref q_5)] ∧ ∃ (S1 : ts) (L1 : List Nat) (vr1 : Nat → Nat) (D1 : Nat → Bool) (kn1 : Nat → Bool) (k1 : Nat), tLabs (tU n) F1 F2 (B1 &&& B2) (10 - i) S1 = some r ∧ uGo S kn S1 kn1 ∧ mK M_15 M' ∧ mCI M' L1 vr1 D1 S1 ∧ (∀ a ∈ L, a ∈ L1) ∧ (∀ v, D v = true → D1 v = true ∧ vr1 v = vr v) ∧ S.1 ≤ S1.1 ∧ (∀ v, D1 v = true ↔ D v = true ∨ (S.1 ≤ v ∧ v < S1.1)) ∧ mPd D S S1 ∧ mPhi M' L1 ≤ mPhi M L ∧ mNw M' L L1 ∧ c2 + 27 * mPhi M' L1 ≤ 27 * mPhi M L + 9 ∧ s2 + 180 * mPhi M' L1 ≤ 180 * mPhi M L + 40 ∧ L1.length + mPhi M' L1 ≤ L.length + mPhi M L ∧ M' md = some (md_E tm kd wh f1 f2 f3 wg ea sp rt th ak wr pl tk fa (nJ k1)) ∧ mSt M' L1 k1 ∧ k1 + 8 * mPhi M' L1 ≤ k + 8 * mPhi M L + 4 ∧ ∀ z, M z ≠ none → mnext M z = none → mnext M' z ≠ none → mVar M z ∨ ∃ t, mtp M' L1 vr1 D1 t false z ∧ ∀ s, SizeOf.sizeOf (uap s (uap S1.2.1 t)) ≤ SizeOf.sizeOf (uap s (uap S1.2.1 r1))) (fun kx M4 ls H locs cells slots ihl hI hM hS => ?_) ⟨0, rfl, Nat.zero_le _, lv_sub hl [0, 1, 2, 3] rfl, S1, L1, vr1, D1, kn1, k1, hr1, hgo, hK1, hCC1, hLL1, hvv1, hnn1, hDD1, hpd1, hPP1, hNw1, hcc1, hss1, hln1, hmd1, hSt1, hkk1, fun z h7 h8 h9 => Or.inl (hzz1 z h7 h8 h9)⟩ hM hS
  clear hl hr1 hgo hK1 hCC1 hLL1 hvv1 hnn1 hDD1 hpd1 hPP1 hNw1 hcc1 hss1 hln1 hmd1 hSt1 hkk1 hzz1
  obtain ⟨i, rfl, hi9, hl, S1, L1, vr1, D1, kn1, k1, hr1, hgo, hK1, hCC1, hLL1, hvv1, hnn1, hDD1, hpd1, hPP1, hNw1, hcc1, hss1, hln1, hmd1, hSt1, hkk1, hzz1⟩ := hI
  have hA41 := hK1.atA hA31
  have hA42 := hK1.atA hA32
  refine lv_iload hx hb dX2_sameRows_330 (lv_at hl 0 rfl) ?_
  refine lv_bipush (v := 10) hx hb dX2_sameRows_332 (by decide) ?_
  refine lv_icmp_ge (tgt := 371) hx hb dX2_sameRows_334 (by decide) (fun c_23 => ?_) (fun c_23 => ?_)
  · skip
    obtain rfl : i = 10 := by have := (nI_leI (a := 10) (b := i) (by omega) (by omega)).1 c_23; omega
    have hr2 : r = .inr S1 := (Option.some.inj hr1).symm
    exact mm_retvD hx hb hr hlk hM hS ⟨rfl, S1, L1, vr1, D1, k1, hr2, hex3.mK.trans hK1, hCC1, hLL1, hvv1, hnn1, hDD1, hpd1, by (try dsimp only); omega, by (try dsimp only); omega, hln1, hPP1, hNw1, hmd1, hSt1, by omega, hzz1⟩ dX2_sameRows_371 (by (try dsimp only); omega) (by (try dsimp only); omega)
  · skip
    have hi : i < 10 := by have : ¬ 10 ≤ i := fun h9 => c_23 ((nI_leI (a := 10) (b := i) (by omega) (by omega)).2 h9); omega
    have hk10 : 10 - i = (9 - i) + 1 := by omega
    have hk9 : 9 - (9 - i) = i := by omega
    have hk8 : 10 - (i + 1) = 9 - i := by omega
    rw [hk10] at hr1
    simp only [tLabs, hk9] at hr1
    refine lv_aload_n hx hb dX2_sameRows_337 rfl (lv_at hl 2 rfl) ?_
    refine lv_iload hx hb dX2_sameRows_338 (lv_at hl 0 rfl) ?_
    rcases hX01 i hi with ⟨hgn1, hfn1⟩ | ⟨x1, ad1, hgx1, hfx1, hty1⟩
    · skip
      have hh : uhs (B1 &&& B2) i = false := by rw [uhs_and hi, hB1 i hi, hg1 i hi, hgn1]; rfl
      rw [hh, if_neg (by decide)] at hr1
      refine mm_aald (k := i) hx hb hE hM 8 hA41 rfl rfl hi (by decide) dX2_sameRows_340 ?_
      rw [hfn1]
      refine lv_ifnullN (tgt := 365) hx hb dX2_sameRows_341 (by decide) ?_
      obtain ⟨x_24, ex_24⟩ : ∃ z : Int32, z = (nI i) + 1 := ⟨_, rfl⟩
      refine lv_iinc (v := x_24) (lv' := [(13, .int x_24), (0, .ref md), (3, .ref q_1), (4, .ref q_5)]) hx hb dX2_sameRows_365 hl (k := 0) rfl (by rw [ex_24]; rfl) (by decide) rfl (fun ls hl => ?_)
      rw [show x_24 = nI (i + 1) from by rw [ex_24]; exact nI_1 i] at hl
      refine lv_goto (tgt := 330) hx hb dX2_sameRows_368 (by decide) ?_
      refine ihl (10 - (i + 1)) (by omega) _ _ _ _ _ _ ⟨i + 1, rfl, hi, lv_sub hl [0, 1, 2, 3] rfl, S1, L1, vr1, D1, kn1, k1, by rw [hk8]; exact hr1, hgo, hK1, hCC1, hLL1, hvv1, hnn1, hDD1, hpd1, hPP1, hNw1, hcc1, hss1, hln1, hmd1, hSt1, hkk1, hzz1⟩ hM hS
    · skip
      refine mm_aald (k := i) hx hb hE hM 8 hA41 rfl rfl hi (by decide) dX2_sameRows_340 ?_
      rw [hfx1]
      refine lv_ifnull hx hb dX2_sameRows_341 ?_
      refine lv_aload hx hb dX2_sameRows_344 (lv_at hl 3 rfl) ?_
      refine lv_iload hx hb dX2_sameRows_346 (lv_at hl 0 rfl) ?_
      rcases hX02 i hi with ⟨hgn2, hfn2⟩ | ⟨x2, ad2, hgx2, hfx2, hty2⟩
      · skip
        have hh : uhs (B1 &&& B2) i = false := by rw [uhs_and hi, hB2 i hi, hg2 i hi, hgn2]; simp
        rw [hh, if_neg (by decide)] at hr1
        refine mm_aald (k := i) hx hb hE hM 8 hA42 rfl rfl hi (by decide) dX2_sameRows_348 ?_
        rw [hfn2]
        refine lv_ifnullN (tgt := 365) hx hb dX2_sameRows_349 (by decide) ?_
        obtain ⟨x_24, ex_24⟩ : ∃ z : Int32, z = (nI i) + 1 := ⟨_, rfl⟩
        refine lv_iinc (v := x_24) (lv' := [(13, .int x_24), (0, .ref md), (3, .ref q_1), (4, .ref q_5)]) hx hb dX2_sameRows_365 hl (k := 0) rfl (by rw [ex_24]; rfl) (by decide) rfl (fun ls hl => ?_)
        rw [show x_24 = nI (i + 1) from by rw [ex_24]; exact nI_1 i] at hl
        refine lv_goto (tgt := 330) hx hb dX2_sameRows_368 (by decide) ?_
        refine ihl (10 - (i + 1)) (by omega) _ _ _ _ _ _ ⟨i + 1, rfl, hi, lv_sub hl [0, 1, 2, 3] rfl, S1, L1, vr1, D1, kn1, k1, by rw [hk8]; exact hr1, hgo, hK1, hCC1, hLL1, hvv1, hnn1, hDD1, hpd1, hPP1, hNw1, hcc1, hss1, hln1, hmd1, hSt1, hkk1, hzz1⟩ hM hS
      · skip
        refine mm_aald (k := i) hx hb hE hM 8 hA42 rfl rfl hi (by decide) dX2_sameRows_348 ?_
        rw [hfx2]
        have hF1 : F1 i = some (uap S.2.1 x1) := by rw [hg1 i hi, hgx1]; rfl
        have hF2 : F2 i = some (uap S.2.1 x2) := by rw [hg2 i hi, hgx2]; rfl
        have hh : uhs (B1 &&& B2) i = true := by rw [uhs_and hi, hB1 i hi, hB2 i hi, hF1, hF2]; rfl
        rw [if_pos hh, hF1, hF2] at hr1
        dsimp only at hr1
        refine lv_ifnull hx hb dX2_sameRows_349 ?_
        refine lv_aload_n hx hb dX2_sameRows_352 rfl (lv_at hl 1 rfl) ?_
        refine lv_aload_n hx hb dX2_sameRows_353 rfl (lv_at hl 2 rfl) ?_
        refine lv_iload hx hb dX2_sameRows_354 (lv_at hl 0 rfl) ?_
        refine mm_aald (k := i) hx hb hE hM 8 hA41 rfl rfl hi (by decide) dX2_sameRows_356 ?_
        rw [hfx1]
        refine lv_aload hx hb dX2_sameRows_357 (lv_at hl 3 rfl) ?_
        refine lv_iload hx hb dX2_sameRows_359 (lv_at hl 0 rfl) ?_
        refine mm_aald (k := i) hx hb hE hM 8 hA42 rfl rfl hi (by decide) dX2_sameRows_361 ?_
        rw [hfx2]
        have htM1 : mtp M4 L1 vr1 D1 x1 false ad1 := mtp.mono (hex3.mK.trans hK1) hLL1 hvv1 _ _ _ hty1
        have htM2 : mtp M4 L1 vr1 D1 x2 false ad2 := mtp.mono (hex3.mK.trans hK1) hLL1 hvv1 _ _ _ hty2
        have hcg : tU n S1 (uap S.2.1 x1) (uap S.2.1 x2) = tU n S1 x1 x2 := tU_cg (hgo.2.2 x1) (hgo.2.2 x2)
        rw [hcg] at hr1
        have hu1 : uget (uap S.2.1 r1) i = some (uap S.2.1 x1) := by rw [← hU1]; exact hF1
        have hu2 : uget (uap S.2.1 r2) i = some (uap S.2.1 x2) := by rw [← hU2]; exact hF2
        have hwx1 : uwf (uG S1 kn1) false (uap S1.2.1 x1) := hgo.wf (hw1.row.2.2.1 i _ hu1).2.1
        have hwx2 : uwf (uG S1 kn1) false (uap S1.2.1 x2) := hgo.wf (hw2.row.2.2.1 i _ hu2).2.1
        have hdx : mDeep M4 L1 vr1 D1 S1 x1 (d + 1) := (hdp.to (y := x1) (k := 1) (fun s => (uget_low hu1).1)).mono (hex3.mK.trans hK1) hLL1 hvv1 hgo.2.2
        have hB91 := hB9.goR hC hCC1 (hex3.mK.trans hK1) hLL1 hvv1 hgo.2.2 hNw1; have hdl1 := hdx.le hCC1 hB91
        cases hru : tU n S1 x1 x2 with
        | none => rw [hru] at hr1; cases hr1
        | some ru =>
          rw [hru] at hr1
          refine mm_callVD (As := [.ref ad1, .ref ad2]) (rest := []) ⟨hx, hb, hml, hown, hts⟩ hE hST hA (ih M4 L1 vr1 D1 S1 kn1 x1 x2 ad1 ad2 ru Hh (d + 1) (Dd - 1) b k1 hmd1 hSt1 (by omega) hCC1 hgo.2.1 htM1 htM2 hwx1 hwx2 hru hB91 hH (by omega) hdx) (cwV 2 hts (lw_V q2654 q2656 qs38 q54 q2657) rfl rfl rfl (by decide +kernel) ⟨(by (try dsimp only); omega), (by (try dsimp only); omega)⟩) hM hS mm_cX2 hmd1 rfl hl.1 (Nat.le_of_ble_eq_true rfl) dX2_sameRows_362 rfl ⟨(by (try dsimp only); omega), (by (try dsimp only); omega)⟩ (fun E ce q M9 H1 locs1 hp9 hM9 hS9 hce hcv hcl => by obtain ⟨er9, he9, hx9⟩ := hp9; exact mm_outxD htab hlk hM9 hS9 hce hcv hcl ⟨er9, by rw [he9] at hr1; exact (Option.some.inj hr1).symm, hx9.after (hex3.mK.trans hK1)⟩ (by (try dsimp only); omega) (by (try dsimp only); omega)) (fun v_24 M_25 n_27 k_28 H locs hp_26 hM hS => ?_)
          obtain ⟨rfl, S2, L2, vr2, D2, k2, hrS, hK5, hC5, hL5, hv5, hn5, hD5, hpd5, hc5, hs5, hl5, hP5, hN5, hmd5, hSt5, hkk5, hz5⟩ := hp_26
          subst hrS
          obtain ⟨kn2, hgo2, -⟩ := tU_good n S1 kn1 x1 x2 S2 hgo.2.1 hwx1 hwx2 hru
          have hup : ∀ (t : ev) (s : Nat → ev), uap s (uap S2.2.1 t) = uap (fun v => uap s (S2.2.1 v)) (uap S1.2.1 t) := fun t s => by rw [← uap_ap, hgo2.2.2 t]
          have hup0 : ∀ (t : ev) (s : Nat → ev), uap s (uap S2.2.1 t) = uap (fun v => uap s (S2.2.1 v)) (uap S.2.1 t) := fun t s => by rw [← uap_ap, (hgo.trans hgo2).2.2 t]
          have hz6 : ∀ z, M z ≠ none → mnext M z = none → mnext M_25 z ≠ none → mVar M z ∨ ∃ t, mtp M_25 L2 vr2 D2 t false z ∧ ∀ s, SizeOf.sizeOf (uap s (uap S2.2.1 t)) ≤ SizeOf.sizeOf (uap s (uap S2.2.1 r1)) := by
            intro z h7 h8 h9
            by_cases h6 : mnext M4 z = none
            · rcases hz5 z ((hex3.mK.trans hK1).hasN h7) h6 h9 with h5 | ⟨t, ht, hs⟩
              · exact Or.inl (h5.back (hex3.mK.trans hK1) h7)
              · refine Or.inr ⟨t, ht, fun s => Nat.le_trans (hs s) ?_⟩
                rw [hup0 x1 s, hup0 r1 s]; exact Nat.le_of_lt (uget_low hu1).2
            · rcases hzz1 z h7 h8 h6 with h5 | ⟨t, ht, hs⟩
              · exact Or.inl h5
              · refine Or.inr ⟨t, mtp.mono hK5 hL5 hv5 _ _ _ ht, fun s => ?_⟩
                rw [hup t s, hup r1 s]; exact hs _
          have hD6 : ∀ v, D2 v = true ↔ D v = true ∨ (S.1 ≤ v ∧ v < S2.1) := fun v => by
            rw [hD5 v, hDD1 v]
            constructor
            · rintro ((h | h) | h)
              · exact Or.inl h
              · exact Or.inr ⟨h.1, by omega⟩
              · exact Or.inr ⟨by omega, h.2⟩
            · rintro (h | h)
              · exact Or.inl (Or.inl h)
              · by_cases h9 : v < S1.1
                · exact Or.inl (Or.inr ⟨h.1, h9⟩)
                · exact Or.inr ⟨by omega, h.2⟩
          have hpd6 : mPd D S S2 := fun v h1 h2 => by
            obtain ⟨a1, a2, a3⟩ := hpd1 v h1 h2
            have hd9 : D1 v = false := by cases h8 : D1 v with | false => rfl | true => rcases (hDD1 v).1 h8 with h7 | h7; (rw [h7] at h1; cases h1); (exact absurd h7.1 (by omega))
            obtain ⟨b1, b2, b3⟩ := hpd5 v hd9 (by omega)
            exact ⟨fun h => b1 (a1 h), b2.trans a2, b3.trans a3⟩
          obtain ⟨x_29, ex_29⟩ : ∃ z : Int32, z = (nI i) + 1 := ⟨_, rfl⟩
          refine lv_iinc (v := x_29) (lv' := [(13, .int x_29), (0, .ref md), (3, .ref q_1), (4, .ref q_5)]) hx hb dX2_sameRows_365 hl (k := 0) rfl (by rw [ex_29]; rfl) (by decide) rfl (fun ls hl => ?_)
          rw [show x_29 = nI (i + 1) from by rw [ex_29]; exact nI_1 i] at hl
          refine lv_goto (tgt := 330) hx hb dX2_sameRows_368 (by decide) ?_
          refine ihl (10 - (i + 1)) (by omega) _ _ _ _ _ _ ⟨i + 1, rfl, hi, lv_sub hl [0, 1, 2, 3] rfl, S2, L2, vr2, D2, kn2, k2, by rw [hk8]; exact hr1, hgo.trans hgo2, hK1.trans hK5, hC5, fun a h => hL5 a (hLL1 a h), fun v h => ⟨(hv5 v (hvv1 v h).1).1, (hv5 v (hvv1 v h).1).2.trans (hvv1 v h).2⟩, Nat.le_trans hnn1 hn5, hD6, hpd6, Nat.le_trans hP5 hPP1, (hNw1.trans hK5 hN5), by (try dsimp only); omega, by (try dsimp only); omega, by omega, hmd5, hSt5, by omega, hz6⟩ hM hS
