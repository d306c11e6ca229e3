/-! ===== uniteRows ===== -/
set_option maxRecDepth 100000
section MCI
variable {p : Program} {l : Launch} {e : Env} {R : Room} {s : State} {m : MethodId} {args : Array Value} {below : List Frame} {meth : Method} {c : Code} {H : Heap} {locs : List Loc} {cells slots : Nat} {Q : State → Prop}
variable {A : Nat → Prop} {Z : mm_G} {M : mm_M} {H0 : Heap}
/-- ways come together, by a picture of memory, locals, cells and slots -/
theorem mm_cutM {g : JFrame} {pc2 : Nat} {rest2 : List Value} (I : mm_M → Array Slot → Nat → Nat → Prop) (k : (∀ (M : mm_M) (ls : Array Slot) (H : Heap) (locs : List Loc) (cells slots : Nat), I M ls cells slots → mm_P Z.1 mm_cl A M H → va_S A H0 H locs → W p l e R s m args below meth c H locs cells slots Q (F0 m pc2 ls rest2)) → W p l e R s m args below meth c H locs cells slots Q g)
    (main : ∀ (M : mm_M) (ls : Array Slot) (H : Heap) (locs : List Loc) (cells slots : Nat), I M ls cells slots → mm_P Z.1 mm_cl A M H → va_S A H0 H locs → W p l e R s m args below meth c H locs cells slots Q (F0 m pc2 ls rest2)) : W p l e R s m args below meth c H locs cells slots Q g := k main
end MCI
theorem al_0.uK {Z : mm_G} {M M' : mm_M} (h : al_0 Z M) (hK : uK M M') : al_0 Z M' := by
  obtain ⟨f, h⟩ := h; exact ⟨f, hK.atA h⟩
theorem uXR.ext {Z : mm_G} {M M' : mm_M} {L : List Nat} {vr : Nat → Nat} {S : ts} {f : Nat → Option ev} {xs : List (Option Nat)} (h : uXR Z M L vr S f xs) (hx : mm_Ext M M') : uXR Z M' L vr S f xs := by
  refine ⟨h.1, fun l hl => ?_⟩
  rcases h.2 l hl with h1 | ⟨x, ad, h1, h2, h3⟩
  · exact Or.inl h1
  · exact Or.inr ⟨x, ad, h1, h2, tp.mono hx.uK (fun _ h => h) (fun _ _ => rfl) (Nat.le_refl _) _ _ _ h3⟩
theorem uFL.A {Z : mm_G} {M0 M : mm_M} {L : List Nat} {vr : Nat → Nat} {S : ts} {fa : Nat} {R : ev} (h : uFL Z M0 M L vr S fa R) (hC : uCI Z M0 L vr S) (hx : mm_Ext M0 M) : uFA Z M L vr S fa (ufl R (fun _ => none) 0).1 (ufl R (fun _ => none) 0).2.1 (ufl R (fun _ => none) 0).2.2 := by
  obtain ⟨q, ar, xs, tl, h1, h2, h3, h4, h5, h6⟩ := h
  cases e : (ufl R (fun _ => none) 0).2.2 with
  | none =>
    rw [e] at h6
    have h6 : tl = none := h6
    subst h6
    exact ⟨q, ar, xs, h1, h2, uXR.ext h5 hx, fun w hw => by cases hw⟩
  | some w =>
    rw [e] at h6
    obtain ⟨h6, h7, h8, h9⟩ := h6
    subst h6
    refine ⟨q, ar, xs, h1, h2, uXR.ext h5 hx, fun u hu => ?_⟩
    cases hu
    refine ⟨h7, ?_, ?_⟩
    · unfold tp; exact ⟨h7, rfl, (hC.2.1 w h7).1, _, _, _, _, hx.at h8⟩
    · exact unext_cr (bd := none) (hx.at h8)
theorem uFA.ext {Z : mm_G} {M M' : mm_M} {L : List Nat} {vr : Nat → Nat} {S : ts} {fa : Nat} {f : Nat → Option ev} {lb : Int32} {en : Option Nat} (h : uFA Z M L vr S fa f lb en) (hx : mm_Ext M M') : uFA Z M' L vr S fa f lb en := by
  obtain ⟨q, ar, xs, h1, h2, h3, h4⟩ := h
  refine ⟨q, ar, xs, hx.at h1, h2.uK hx.uK, uXR.ext h3 hx, fun w hw => ?_⟩
  obtain ⟨k1, k2, k3⟩ := h4 w hw
  refine ⟨k1, tp.mono hx.uK (fun _ h => h) (fun _ _ => rfl) (Nat.le_refl _) _ _ _ k2, ?_⟩
  obtain ⟨e, h9⟩ := k2.some
  rw [← k3]; unfold unext; rw [hx.at h9, h9]

set_option maxHeartbeats 4000000 in
set_option maxRecDepth 100000 in
theorem d_X1_uniteRows (l : Launch) (Z : mm_G) {M : mm_M} {n : Nat} (htr : l.stackTraces = false) (ih : uUn l Z n) {L : List Nat} {vr : Nat → Nat} {S : ts} {kd : Nat → Bool} {r1 r2 : ev} {a1 a2 : Nat} {r : te} {Hh Lm d D b : Nat} (h0 : al_0 Z M) (hC : uCI Z M L vr S) (hG : usg S kd) (ht1 : tp Z M L vr S.1 r1 true a1) (ht2 : tp Z M L vr S.1 r2 true a2) (hw1 : uwf (uG S kd) true (uap S.2.1 r1)) (hw2 : uwf (uG S kd) true (uap S.2.1 r2)) (hr9 : tRows (tU n) S (uap S.2.1 r1) (uap S.2.1 r2) = some r) (hB9 : uB Z M L vr S b) (hH : 2 * b + 3 ≤ Hh) (hLm : L.length + uPhi M L ≤ Lm) (hD : D + d = Hh) (hdp : uDeep Z M L vr S r1 d) : mm_D l Z yX1_uniteRows (ws_ yX1_uniteRows cX1_uniteRows 7 none) { frames := Hh + Lm + 30 + D, cells := 27 * uPhi M L + 9 * D + 46, slots := 70 * uPhi M L + 55 * D + 160, locals := 25 * Hh + 20 * Lm + 1000 + 30 * D } [.ref a1, .ref a2] M (uUP Z M L vr S r1 1 r) (fun E q M' => ∃ er, r = .inl er ∧ uX M er E q M') := by
  refine mm_ofWD (cc := cX1_uniteRows) (maxL := 7) (ret := none) (by decide) rfl (Nat.le_of_ble_eq_true rfl) ?_
  intro p e s m below meth c A ls hx hb hr hlk hml hown hmn hts htab hE hST hA hM hS hl
  replace hl : lv_has ls 7 [(0, .ref a1), (1, .ref a2)] := hl
  refine mm_new (D := Z.1) (ci := 17) (fs := mm_f0X22) (C := RX22) (T := TX22) (N := 3) hx hb hts in_X22 tyX22 tyX22_ok hown (hts _ q1193) (hts _ q1194) (hts _ q90) hE.1 hM hS hA mm_cX22 mm_dfX22 (by (try dsimp only); omega) (by (try dsimp only); omega) dX1_uniteRows_0 (fun q_2 H nq_1 hM hS => ?_)
  have hM : mm_P Z.1 mm_cl A (mm_U M q_2 (.inr (17, [.null, .null, .int 0]))) H := hM
  have hc_3 : (mm_U M q_2 (.inr (17, [.null, .null, .int 0]))) q_2 = some (.inr (17, [.null, .null, .int 0])) := mm_U_eq
  obtain ⟨M_4, eM_4⟩ : ∃ z, z = mm_U M q_2 (.inr (17, [.null, .null, .int 0])) := ⟨_, rfl⟩
  rw [← eM_4] at hM hc_3
  refine lv_dup hx hb dX1_uniteRows_3 rfl ?_
  refine lv_aload_n hx hb dX1_uniteRows_4 rfl (lv_at hl 0 rfl) ?_
  refine mm_callID (As := [.ref a1]) (rest := [.ref q_2]) ⟨hx, hb, hml, hown, hts⟩ hE hST hA (d_X22_init l Z (M0 := M) (r := r1) (fa := q_2) h0 nq_1 (by subst eM_4; rfl) rfl hC ht1) (cwI (maxL := 5) 1 hts (lw_meth q1197) rfl rfl rfl (hts _ q90) (hts _ q1195) (hts _ q1196) rfl (by decide +kernel) ⟨(by (try dsimp only); omega), (by (try dsimp only); omega)⟩) hM hS rfl hl.1 (Nat.le_of_ble_eq_true rfl) dX1_uniteRows_5 rfl ⟨(by (try dsimp only); omega), (by (try dsimp only); omega)⟩ (fun _ _ _ _ _ _ h9 => h9.elim) (fun v_5 M_6 n_8 k_9 H locs hp_7 hM hS => ?_)
  obtain ⟨rfl, rfl, rfl, hex1, hfl1⟩ := hp_7
  have hC1 := hC.lite hex1
  have h01 := h0.ext hex1
  have hFA1 := hfl1.A hC hex1
  refine lv_astore_n hx hb dX1_uniteRows_8 rfl hl (by decide) rfl (fun ls hl => ?_)
  replace hl : lv_has ls 7 [(2, .ref q_2), (0, .ref a1), (1, .ref a2)] := hl
  refine mm_new (D := Z.1) (ci := 17) (fs := mm_f0X22) (C := RX22) (T := TX22) (N := 3) hx hb hts in_X22 tyX22 tyX22_ok hown (hts _ q1193) (hts _ q1194) (hts _ q90) hE.1 hM hS hA mm_cX22 mm_dfX22 (by (try dsimp only); omega) (by (try dsimp only); omega) dX1_uniteRows_9 (fun q_11 H nq_10 hM hS => ?_)
  have hM : mm_P Z.1 mm_cl A (mm_U M_6 q_11 (.inr (17, [.null, .null, .int 0]))) H := hM
  have hc_12 : (mm_U M_6 q_11 (.inr (17, [.null, .null, .int 0]))) q_11 = some (.inr (17, [.null, .null, .int 0])) := mm_U_eq
  obtain ⟨M_13, eM_13⟩ : ∃ z, z = mm_U M_6 q_11 (.inr (17, [.null, .null, .int 0])) := ⟨_, rfl⟩
  rw [← eM_13] at hM hc_12
  refine lv_dup hx hb dX1_uniteRows_12 rfl ?_
  refine lv_aload_n hx hb dX1_uniteRows_13 rfl (lv_at hl 2 rfl) ?_
  refine mm_callID (As := [.ref a2]) (rest := [.ref q_11]) ⟨hx, hb, hml, hown, hts⟩ hE hST hA (d_X22_init l Z (M0 := M_6) (r := r2) (fa := q_11) h01 nq_10 (by subst eM_13; rfl) rfl hC1 (tp.mono hex1.uK (fun _ h => h) (fun _ _ => rfl) (Nat.le_refl _) _ _ _ ht2)) (cwI (maxL := 5) 1 hts (lw_meth q1197) rfl rfl rfl (hts _ q90) (hts _ q1195) (hts _ q1196) rfl (by decide +kernel) ⟨(by (try dsimp only); omega), (by (try dsimp only); omega)⟩) hM hS rfl hl.1 (Nat.le_of_ble_eq_true rfl) dX1_uniteRows_14 rfl ⟨(by (try dsimp only); omega), (by (try dsimp only); omega)⟩ (fun _ _ _ _ _ _ h9 => h9.elim) (fun v_14 M_15 n_17 k_18 H locs hp_16 hM hS => ?_)
  obtain ⟨rfl, rfl, rfl, hex2, hfl2⟩ := hp_16
  have hex := hex1.trans hex2
  have hC2 := hC1.lite hex2
  have h02 := h01.ext hex2
  have hFA2 := hfl2.A hC1 hex2
  replace hFA1 := hFA1.ext hex2
  have hB1 : ∀ l, l < 10 → uhs (ufl (uap S.2.1 r1) (fun _ => none) 0).2.1 l = ((ufl (uap S.2.1 r1) (fun _ => none) 0).1 l).isSome := fun l hl => by obtain ⟨p1, p2, -⟩ := ufl_spec hw1 (fun _ => none) 0; rw [p1, p2 l hl, uhs_0 hl]; simp
  have hU1 : ∀ l, (ufl (uap S.2.1 r1) (fun _ => none) 0).1 l = uget (uap S.2.1 r1) l := fun l => by obtain ⟨p1, -, -⟩ := ufl_spec hw1 (fun _ => none) 0; rw [p1]; simp
  have hV1 : (ufl (uap S.2.1 r1) (fun _ => none) 0).2.2 = uend (uap S.2.1 r1) := (ufl_spec hw1 (fun _ => none) 0).2.2
  have hB2 : ∀ l, l < 10 → uhs (ufl (uap S.2.1 r2) (fun _ => none) 0).2.1 l = ((ufl (uap S.2.1 r2) (fun _ => none) 0).1 l).isSome := fun l hl => by obtain ⟨p1, p2, -⟩ := ufl_spec hw2 (fun _ => none) 0; rw [p1, p2 l hl, uhs_0 hl]; simp
  have hU2 : ∀ l, (ufl (uap S.2.1 r2) (fun _ => none) 0).1 l = uget (uap S.2.1 r2) l := fun l => by obtain ⟨p1, -, -⟩ := ufl_spec hw2 (fun _ => none) 0; rw [p1]; simp
  have hV2 : (ufl (uap S.2.1 r2) (fun _ => none) 0).2.2 = uend (uap S.2.1 r2) := (ufl_spec hw2 (fun _ => none) 0).2.2
  have hrs := hr9
  unfold tRows at hr9
  dsimp only at hr9
  generalize (ufl (uap S.2.1 r1) (fun _ => none) 0).1 = f1 at hr9 hFA1 hB1 hU1; generalize (ufl (uap S.2.1 r1) (fun _ => none) 0).2.1 = B1 at hr9 hFA1 hB1; generalize (ufl (uap S.2.1 r1) (fun _ => none) 0).2.2 = E1 at hr9 hFA1 hV1
  obtain ⟨t1, ar1, xs1, hfc1, hA1, hX1, hE1⟩ := id hFA1
  generalize (ufl (uap S.2.1 r2) (fun _ => none) 0).1 = f2 at hr9 hFA2 hB2 hU2; generalize (ufl (uap S.2.1 r2) (fun _ => none) 0).2.1 = B2 at hr9 hFA2 hB2; generalize (ufl (uap S.2.1 r2) (fun _ => none) 0).2.2 = E2 at hr9 hFA2 hV2
  obtain ⟨t2, ar2, xs2, hfc2, hA2, hX2, hE2⟩ := id hFA2
  refine lv_astore_n hx hb dX1_uniteRows_17 rfl hl (by decide) rfl (fun ls hl => ?_)
  replace hl : lv_has ls 7 [(3, .ref q_11), (2, .ref q_2), (0, .ref a1), (1, .ref a2)] := hl
  refine lv_aload_n hx hb dX1_uniteRows_18 rfl (lv_at hl 1 rfl) ?_
  refine va_getN (D := Z.1) (ci := 17) (v := .int B1) (C := RX22) (T := TX22) (N := 3) hx hb hts in_X22 hown hE.1 (hM.at hfc1) 0 rfl mm_cX22 2 (by decide) (va_Nw.use rfl (hE.2.1 _ q1222 rfl)) (fun _ h9 => h9) rfl dX1_uniteRows_19 ?_
  refine lv_aload_n hx hb dX1_uniteRows_22 rfl (lv_at hl 0 rfl) ?_
  refine va_getN (D := Z.1) (ci := 17) (v := .int B2) (C := RX22) (T := TX22) (N := 3) hx hb hts in_X22 hown hE.1 (hM.at hfc2) 0 rfl mm_cX22 2 (by decide) (va_Nw.use rfl (hE.2.1 _ q1222 rfl)) (fun _ h9 => h9) rfl dX1_uniteRows_23 ?_
  refine lv_iconst (v := -1) hx hb dX1_uniteRows_26 (by decide) ?_
  refine lv_ixor hx hb dX1_uniteRows_27 ?_
  refine lv_iand hx hb dX1_uniteRows_28 ?_
  obtain ⟨own, hown9⟩ : ∃ z, z = (B1 &&& (B2 ^^^ (-1))) := ⟨_, rfl⟩
  rw [show (B1 &&& (B2 ^^^ (-1)) : Int32) = own from hown9.symm]
  refine lv_istore hx hb dX1_uniteRows_29 hl (by decide) rfl (fun ls hl => ?_)
  replace hl : lv_has ls 7 [(4, .int own), (3, .ref q_11), (2, .ref q_2), (0, .ref a1), (1, .ref a2)] := hl
  refine lv_aload_n hx hb dX1_uniteRows_31 rfl (lv_at hl 1 rfl) ?_
  refine va_getN (D := Z.1) (ci := 17) (v := .int B2) (C := RX22) (T := TX22) (N := 3) hx hb hts in_X22 hown hE.1 (hM.at hfc2) 0 rfl mm_cX22 2 (by decide) (va_Nw.use rfl (hE.2.1 _ q1222 rfl)) (fun _ h9 => h9) rfl dX1_uniteRows_32 ?_
  refine lv_aload_n hx hb dX1_uniteRows_35 rfl (lv_at hl 2 rfl) ?_
  refine va_getN (D := Z.1) (ci := 17) (v := .int B1) (C := RX22) (T := TX22) (N := 3) hx hb hts in_X22 hown hE.1 (hM.at hfc1) 0 rfl mm_cX22 2 (by decide) (va_Nw.use rfl (hE.2.1 _ q1222 rfl)) (fun _ h9 => h9) rfl dX1_uniteRows_36 ?_
  refine lv_iconst (v := -1) hx hb dX1_uniteRows_39 (by decide) ?_
  refine lv_ixor hx hb dX1_uniteRows_40 ?_
  refine lv_iand hx hb dX1_uniteRows_41 ?_
  obtain ⟨its, hits9⟩ : ∃ z, z = (B2 &&& (B1 ^^^ (-1))) := ⟨_, rfl⟩
  rw [show (B2 &&& (B1 ^^^ (-1)) : Int32) = its from hits9.symm]
  rw [← hown9, ← hits9] at hr9
  refine lv_istore hx hb dX1_uniteRows_42 hl (by decide) rfl (fun ls hl => ?_)
  replace hl : lv_has ls 7 [(5, .int its), (4, .int own), (3, .ref q_11), (2, .ref q_2), (0, .ref a1), (1, .ref a2)] := hl
  refine mm_cutW (v0 := mm_b (decide ((own = 0 ∨ E2 ≠ none) ∧ (its = 0 ∨ E1 ≠ none)))) (pc2 := 73) (ls := ls) (rest := []) (M := M_15) (fun kk => ?_) (fun H locs hM hS => ?_) hM hS
  · skip
    rcases E1 with _ | v <;> rcases E2 with _ | w
    · skip
      refine lv_iload hx hb dX1_uniteRows_44 (lv_at hl 1 rfl) ?_
      refine lv_if_eq (tgt := 56) hx hb dX1_uniteRows_46 (by decide) (fun c_19 => ?_) (fun c_19 => ?_)
      · skip
        refine lv_iload hx hb dX1_uniteRows_56 (lv_at hl 0 rfl) ?_
        refine lv_if_eq (tgt := 68) hx hb dX1_uniteRows_58 (by decide) (fun c_20 => ?_) (fun c_20 => ?_)
        · skip
          refine lv_iconst (v := 1) hx hb dX1_uniteRows_68 (by decide) ?_
          refine lv_goto (tgt := 73) hx hb dX1_uniteRows_69 (by decide) ?_
          exact kk _ _ _ hM hS (by simp [mm_b, c_19, c_20])
        · skip
          refine lv_aload_n hx hb dX1_uniteRows_61 rfl (lv_at hl 3 rfl) ?_
          refine va_getN (D := Z.1) (ci := 17) (v := .null) (C := RX22) (T := TX22) (N := 3) hx hb hts in_X22 hown hE.1 (hM.at hfc1) 0 rfl mm_cX22 1 (by decide) (va_Nw.use rfl (hE.2.1 _ q1217 rfl)) (fun _ h9 => h9) rfl dX1_uniteRows_62 ?_
          refine lv_ifnullN (tgt := 72) hx hb dX1_uniteRows_65 (by decide) ?_
          refine lv_iconst (v := 0) hx hb dX1_uniteRows_72 (by decide) ?_
          exact kk _ _ _ hM hS (by simp [mm_b, c_19, c_20])
      · skip
        refine lv_aload_n hx hb dX1_uniteRows_49 rfl (lv_at hl 2 rfl) ?_
        refine va_getN (D := Z.1) (ci := 17) (v := .null) (C := RX22) (T := TX22) (N := 3) hx hb hts in_X22 hown hE.1 (hM.at hfc2) 0 rfl mm_cX22 1 (by decide) (va_Nw.use rfl (hE.2.1 _ q1217 rfl)) (fun _ h9 => h9) rfl dX1_uniteRows_50 ?_
        refine lv_ifnullN (tgt := 72) hx hb dX1_uniteRows_53 (by decide) ?_
        refine lv_iconst (v := 0) hx hb dX1_uniteRows_72 (by decide) ?_
        exact kk _ _ _ hM hS (by simp [mm_b, c_19])
    · skip
      obtain ⟨hlw, htw, hnw⟩ := hE2 w rfl
      obtain ⟨hcw, hsw⟩ := hC2.rootR hlw htw hnw
      refine lv_iload hx hb dX1_uniteRows_44 (lv_at hl 1 rfl) ?_
      refine lv_if_eq (tgt := 56) hx hb dX1_uniteRows_46 (by decide) (fun c_19 => ?_) (fun c_19 => ?_)
      · skip
        refine lv_iload hx hb dX1_uniteRows_56 (lv_at hl 0 rfl) ?_
        refine lv_if_eq (tgt := 68) hx hb dX1_uniteRows_58 (by decide) (fun c_20 => ?_) (fun c_20 => ?_)
        · skip
          refine lv_iconst (v := 1) hx hb dX1_uniteRows_68 (by decide) ?_
          refine lv_goto (tgt := 73) hx hb dX1_uniteRows_69 (by decide) ?_
          exact kk _ _ _ hM hS (by simp [mm_b, c_19, c_20])
        · skip
          refine lv_aload_n hx hb dX1_uniteRows_61 rfl (lv_at hl 3 rfl) ?_
          refine va_getN (D := Z.1) (ci := 17) (v := .null) (C := RX22) (T := TX22) (N := 3) hx hb hts in_X22 hown hE.1 (hM.at hfc1) 0 rfl mm_cX22 1 (by decide) (va_Nw.use rfl (hE.2.1 _ q1217 rfl)) (fun _ h9 => h9) rfl dX1_uniteRows_62 ?_
          refine lv_ifnullN (tgt := 72) hx hb dX1_uniteRows_65 (by decide) ?_
          refine lv_iconst (v := 0) hx hb dX1_uniteRows_72 (by decide) ?_
          exact kk _ _ _ hM hS (by simp [mm_b, c_19, c_20])
      · skip
        refine lv_aload_n hx hb dX1_uniteRows_49 rfl (lv_at hl 2 rfl) ?_
        refine va_getN (D := Z.1) (ci := 17) (v := .ref (vr w)) (C := RX22) (T := TX22) (N := 3) hx hb hts in_X22 hown hE.1 (hM.at hfc2) 0 rfl mm_cX22 1 (by decide) (va_Nw.use rfl (hE.2.1 _ q1217 rfl)) (fun _ h9 => h9) rfl dX1_uniteRows_50 ?_
        refine lv_ifnull hx hb dX1_uniteRows_53 ?_
        refine lv_iload hx hb dX1_uniteRows_56 (lv_at hl 0 rfl) ?_
        refine lv_if_eq (tgt := 68) hx hb dX1_uniteRows_58 (by decide) (fun c_20 => ?_) (fun c_20 => ?_)
        · skip
          refine lv_iconst (v := 1) hx hb dX1_uniteRows_68 (by decide) ?_
          refine lv_goto (tgt := 73) hx hb dX1_uniteRows_69 (by decide) ?_
          exact kk _ _ _ hM hS (by simp [mm_b, c_19, c_20])
        · skip
          refine lv_aload_n hx hb dX1_uniteRows_61 rfl (lv_at hl 3 rfl) ?_
          refine va_getN (D := Z.1) (ci := 17) (v := .null) (C := RX22) (T := TX22) (N := 3) hx hb hts in_X22 hown hE.1 (hM.at hfc1) 0 rfl mm_cX22 1 (by decide) (va_Nw.use rfl (hE.2.1 _ q1217 rfl)) (fun _ h9 => h9) rfl dX1_uniteRows_62 ?_
          refine lv_ifnullN (tgt := 72) hx hb dX1_uniteRows_65 (by decide) ?_
          refine lv_iconst (v := 0) hx hb dX1_uniteRows_72 (by decide) ?_
          exact kk _ _ _ hM hS (by simp [mm_b, c_19, c_20])
    · skip
      obtain ⟨hlv, htv, hnv⟩ := hE1 v rfl
      obtain ⟨hcv, hsv⟩ := hC2.rootR hlv htv hnv
      refine lv_iload hx hb dX1_uniteRows_44 (lv_at hl 1 rfl) ?_
      refine lv_if_eq (tgt := 56) hx hb dX1_uniteRows_46 (by decide) (fun c_19 => ?_) (fun c_19 => ?_)
      · skip
        refine lv_iload hx hb dX1_uniteRows_56 (lv_at hl 0 rfl) ?_
        refine lv_if_eq (tgt := 68) hx hb dX1_uniteRows_58 (by decide) (fun c_20 => ?_) (fun c_20 => ?_)
        · skip
          refine lv_iconst (v := 1) hx hb dX1_uniteRows_68 (by decide) ?_
          refine lv_goto (tgt := 73) hx hb dX1_uniteRows_69 (by decide) ?_
          exact kk _ _ _ hM hS (by simp [mm_b, c_19, c_20])
        · skip
          refine lv_aload_n hx hb dX1_uniteRows_61 rfl (lv_at hl 3 rfl) ?_
          refine va_getN (D := Z.1) (ci := 17) (v := .ref (vr v)) (C := RX22) (T := TX22) (N := 3) hx hb hts in_X22 hown hE.1 (hM.at hfc1) 0 rfl mm_cX22 1 (by decide) (va_Nw.use rfl (hE.2.1 _ q1217 rfl)) (fun _ h9 => h9) rfl dX1_uniteRows_62 ?_
          refine lv_ifnull hx hb dX1_uniteRows_65 ?_
          refine lv_iconst (v := 1) hx hb dX1_uniteRows_68 (by decide) ?_
          refine lv_goto (tgt := 73) hx hb dX1_uniteRows_69 (by decide) ?_
          exact kk _ _ _ hM hS (by simp [mm_b, c_19, c_20])
      · skip
        refine lv_aload_n hx hb dX1_uniteRows_49 rfl (lv_at hl 2 rfl) ?_
        refine va_getN (D := Z.1) (ci := 17) (v := .null) (C := RX22) (T := TX22) (N := 3) hx hb hts in_X22 hown hE.1 (hM.at hfc2) 0 rfl mm_cX22 1 (by decide) (va_Nw.use rfl (hE.2.1 _ q1217 rfl)) (fun _ h9 => h9) rfl dX1_uniteRows_50 ?_
        refine lv_ifnullN (tgt := 72) hx hb dX1_uniteRows_53 (by decide) ?_
        refine lv_iconst (v := 0) hx hb dX1_uniteRows_72 (by decide) ?_
        exact kk _ _ _ hM hS (by simp [mm_b, c_19])
    · skip
      obtain ⟨hlv, htv, hnv⟩ := hE1 v rfl
      obtain ⟨hcv, hsv⟩ := hC2.rootR hlv htv hnv
      obtain ⟨hlw, htw, hnw⟩ := hE2 w rfl
      obtain ⟨hcw, hsw⟩ := hC2.rootR hlw htw hnw
      refine lv_iload hx hb dX1_uniteRows_44 (lv_at hl 1 rfl) ?_
      refine lv_if_eq (tgt := 56) hx hb dX1_uniteRows_46 (by decide) (fun c_19 => ?_) (fun c_19 => ?_)
      · skip
        refine lv_iload hx hb dX1_uniteRows_56 (lv_at hl 0 rfl) ?_
        refine lv_if_eq (tgt := 68) hx hb dX1_uniteRows_58 (by decide) (fun c_20 => ?_) (fun c_20 => ?_)
        · skip
          refine lv_iconst (v := 1) hx hb dX1_uniteRows_68 (by decide) ?_
          refine lv_goto (tgt := 73) hx hb dX1_uniteRows_69 (by decide) ?_
          exact kk _ _ _ hM hS (by simp [mm_b, c_19, c_20])
        · skip
          refine lv_aload_n hx hb dX1_uniteRows_61 rfl (lv_at hl 3 rfl) ?_
          refine va_getN (D := Z.1) (ci := 17) (v := .ref (vr v)) (C := RX22) (T := TX22) (N := 3) hx hb hts in_X22 hown hE.1 (hM.at hfc1) 0 rfl mm_cX22 1 (by decide) (va_Nw.use rfl (hE.2.1 _ q1217 rfl)) (fun _ h9 => h9) rfl dX1_uniteRows_62 ?_
          refine lv_ifnull hx hb dX1_uniteRows_65 ?_
          refine lv_iconst (v := 1) hx hb dX1_uniteRows_68 (by decide) ?_
          refine lv_goto (tgt := 73) hx hb dX1_uniteRows_69 (by decide) ?_
          exact kk _ _ _ hM hS (by simp [mm_b, c_19, c_20])
      · skip
        refine lv_aload_n hx hb dX1_uniteRows_49 rfl (lv_at hl 2 rfl) ?_
        refine va_getN (D := Z.1) (ci := 17) (v := .ref (vr w)) (C := RX22) (T := TX22) (N := 3) hx hb hts in_X22 hown hE.1 (hM.at hfc2) 0 rfl mm_cX22 1 (by decide) (va_Nw.use rfl (hE.2.1 _ q1217 rfl)) (fun _ h9 => h9) rfl dX1_uniteRows_50 ?_
        refine lv_ifnull hx hb dX1_uniteRows_53 ?_
        refine lv_iload hx hb dX1_uniteRows_56 (lv_at hl 0 rfl) ?_
        refine lv_if_eq (tgt := 68) hx hb dX1_uniteRows_58 (by decide) (fun c_20 => ?_) (fun c_20 => ?_)
        · skip
          refine lv_iconst (v := 1) hx hb dX1_uniteRows_68 (by decide) ?_
          refine lv_goto (tgt := 73) hx hb dX1_uniteRows_69 (by decide) ?_
          exact kk _ _ _ hM hS (by simp [mm_b, c_19, c_20])
        · skip
          refine lv_aload_n hx hb dX1_uniteRows_61 rfl (lv_at hl 3 rfl) ?_
          refine va_getN (D := Z.1) (ci := 17) (v := .ref (vr v)) (C := RX22) (T := TX22) (N := 3) hx hb hts in_X22 hown hE.1 (hM.at hfc1) 0 rfl mm_cX22 1 (by decide) (va_Nw.use rfl (hE.2.1 _ q1217 rfl)) (fun _ h9 => h9) rfl dX1_uniteRows_62 ?_
          refine lv_ifnull hx hb dX1_uniteRows_65 ?_
          refine lv_iconst (v := 1) hx hb dX1_uniteRows_68 (by decide) ?_
          refine lv_goto (tgt := 73) hx hb dX1_uniteRows_69 (by decide) ?_
          exact kk _ _ _ hM hS (by simp [mm_b, c_19, c_20])
  refine lv_bipush (v := 6) hx hb dX1_uniteRows_73 (by decide) ?_
  refine mm_callS (As := [.int (mm_b (decide ((own = 0 ∨ E2 ≠ none) ∧ (its = 0 ∨ E1 ≠ none)))), .int 6]) (rest := []) ⟨hx, hb, hml, hown, hts⟩ hE hST hA (c_X1_must l Z htr (M := M_15) (b := decide ((own = 0 ∨ E2 ≠ none) ∧ (its = 0 ∨ E1 ≠ none))) (er := 6)) (va_cwS 2 hts (lw_S q1230 q1231 q50 q1232) rfl rfl rfl (by decide +kernel) ⟨(by (try dsimp only); omega), (by (try dsimp only); omega)⟩) hM hS rfl hl.1 (Nat.le_of_ble_eq_true rfl) dX1_uniteRows_75 rfl ⟨(by (try dsimp only); omega), (by (try dsimp only); omega)⟩ (fun E ce q M9 H1 locs1 hp9 hM9 hS9 hce hcv hcl => by obtain ⟨hb9, hp9⟩ := hp9; have hb9 := of_decide_eq_false hb9; exact mm_outxD htab hlk hM9 hS9 hce hcv hcl ⟨6, by rw [if_pos hb9] at hr9; exact (Option.some.inj hr9).symm, (uX.of hp9).afterK hex.uK⟩ (by (try dsimp only); omega) (by (try dsimp only); omega)) (fun v_19 M_20 H locs hp_21 hM hS => ?_)
  obtain ⟨hhL, rfl, eM_20⟩ := hp_21
  rw [eM_20] at hM
  replace hhL : ((own = 0 ∨ E2 ≠ none) ∧ (its = 0 ∨ E1 ≠ none)) := of_decide_eq_true hhL
  rw [if_neg (not_not_intro hhL)] at hr9
  refine mm_cutW (v0 := mm_b (decide ((own = 0 ∨ ∀ w, E2 = some w → S.2.2.2.1 w &&& own = 0) ∧ (its = 0 ∨ ∀ v, E1 = some v → S.2.2.2.1 v &&& its = 0)))) (pc2 := 119) (ls := ls) (rest := []) (M := M_15) (fun kk => ?_) (fun H locs hM hS => ?_) hM hS
  · skip
    rcases E1 with _ | v <;> rcases E2 with _ | w
    · skip
      refine lv_iload hx hb dX1_uniteRows_78 (lv_at hl 1 rfl) ?_
      refine lv_if_eq (tgt := 96) hx hb dX1_uniteRows_80 (by decide) (fun c_22 => ?_) (fun c_22 => ?_)
      · skip
        refine lv_iload hx hb dX1_uniteRows_96 (lv_at hl 0 rfl) ?_
        refine lv_if_eq (tgt := 114) hx hb dX1_uniteRows_98 (by decide) (fun c_23 => ?_) (fun c_23 => ?_)
        · skip
          refine lv_iconst (v := 1) hx hb dX1_uniteRows_114 (by decide) ?_
          refine lv_goto (tgt := 119) hx hb dX1_uniteRows_115 (by decide) ?_
          exact kk _ _ _ hM hS (by simp [mm_b, c_22, c_23])
        · skip
          exact absurd (hhL.2.resolve_right (fun h9 => h9 rfl)) c_23
      · skip
        exact absurd (hhL.1.resolve_right (fun h9 => h9 rfl)) c_22
    · skip
      obtain ⟨hlw, htw, hnw⟩ := hE2 w rfl
      obtain ⟨hcw, hsw⟩ := hC2.rootR hlw htw hnw
      refine lv_iload hx hb dX1_uniteRows_78 (lv_at hl 1 rfl) ?_
      refine lv_if_eq (tgt := 96) hx hb dX1_uniteRows_80 (by decide) (fun c_22 => ?_) (fun c_22 => ?_)
      · skip
        refine lv_iload hx hb dX1_uniteRows_96 (lv_at hl 0 rfl) ?_
        refine lv_if_eq (tgt := 114) hx hb dX1_uniteRows_98 (by decide) (fun c_23 => ?_) (fun c_23 => ?_)
        · skip
          refine lv_iconst (v := 1) hx hb dX1_uniteRows_114 (by decide) ?_
          refine lv_goto (tgt := 119) hx hb dX1_uniteRows_115 (by decide) ?_
          exact kk _ _ _ hM hS (by simp [mm_b, c_22, c_23])
        · skip
          exact absurd (hhL.2.resolve_right (fun h9 => h9 rfl)) c_23
      · skip
        refine lv_aload_n hx hb dX1_uniteRows_83 rfl (lv_at hl 2 rfl) ?_
        refine va_getN (D := Z.1) (ci := 17) (v := .ref (vr w)) (C := RX22) (T := TX22) (N := 3) hx hb hts in_X22 hown hE.1 (hM.at hfc2) 0 rfl mm_cX22 1 (by decide) (va_Nw.use rfl (hE.2.1 _ q1217 rfl)) (fun _ h9 => h9) rfl dX1_uniteRows_84 ?_
        refine va_getN (D := Z.1) (ci := 12) (v := .int (S.2.2.2.1 w)) (C := RX15) (T := TX15) (N := 4) hx hb hts in_X15 hown hE.1 (hM.at hcw) 0 rfl mm_cX15 3 (by decide) (va_Nw.use rfl (hE.2.1 _ q934 rfl)) (fun _ h9 => h9) rfl dX1_uniteRows_87 ?_
        refine lv_iload hx hb dX1_uniteRows_90 (lv_at hl 1 rfl) ?_
        refine lv_iand hx hb dX1_uniteRows_92 ?_
        refine lv_if_ne (tgt := 118) hx hb dX1_uniteRows_93 (by decide) (fun c_23 => ?_) (fun c_23 => ?_)
        · skip
          refine lv_iconst (v := 0) hx hb dX1_uniteRows_118 (by decide) ?_
          exact kk _ _ _ hM hS (by simp [mm_b, c_22, c_23])
        · skip
          refine lv_iload hx hb dX1_uniteRows_96 (lv_at hl 0 rfl) ?_
          refine lv_if_eq (tgt := 114) hx hb dX1_uniteRows_98 (by decide) (fun c_24 => ?_) (fun c_24 => ?_)
          · skip
            refine lv_iconst (v := 1) hx hb dX1_uniteRows_114 (by decide) ?_
            refine lv_goto (tgt := 119) hx hb dX1_uniteRows_115 (by decide) ?_
            exact kk _ _ _ hM hS (by simp [mm_b, c_22, c_23, c_24])
          · skip
            exact absurd (hhL.2.resolve_right (fun h9 => h9 rfl)) c_24
    · skip
      obtain ⟨hlv, htv, hnv⟩ := hE1 v rfl
      obtain ⟨hcv, hsv⟩ := hC2.rootR hlv htv hnv
      refine lv_iload hx hb dX1_uniteRows_78 (lv_at hl 1 rfl) ?_
      refine lv_if_eq (tgt := 96) hx hb dX1_uniteRows_80 (by decide) (fun c_22 => ?_) (fun c_22 => ?_)
      · skip
        refine lv_iload hx hb dX1_uniteRows_96 (lv_at hl 0 rfl) ?_
        refine lv_if_eq (tgt := 114) hx hb dX1_uniteRows_98 (by decide) (fun c_23 => ?_) (fun c_23 => ?_)
        · skip
          refine lv_iconst (v := 1) hx hb dX1_uniteRows_114 (by decide) ?_
          refine lv_goto (tgt := 119) hx hb dX1_uniteRows_115 (by decide) ?_
          exact kk _ _ _ hM hS (by simp [mm_b, c_22, c_23])
        · skip
          refine lv_aload_n hx hb dX1_uniteRows_101 rfl (lv_at hl 3 rfl) ?_
          refine va_getN (D := Z.1) (ci := 17) (v := .ref (vr v)) (C := RX22) (T := TX22) (N := 3) hx hb hts in_X22 hown hE.1 (hM.at hfc1) 0 rfl mm_cX22 1 (by decide) (va_Nw.use rfl (hE.2.1 _ q1217 rfl)) (fun _ h9 => h9) rfl dX1_uniteRows_102 ?_
          refine va_getN (D := Z.1) (ci := 12) (v := .int (S.2.2.2.1 v)) (C := RX15) (T := TX15) (N := 4) hx hb hts in_X15 hown hE.1 (hM.at hcv) 0 rfl mm_cX15 3 (by decide) (va_Nw.use rfl (hE.2.1 _ q934 rfl)) (fun _ h9 => h9) rfl dX1_uniteRows_105 ?_
          refine lv_iload hx hb dX1_uniteRows_108 (lv_at hl 0 rfl) ?_
          refine lv_iand hx hb dX1_uniteRows_110 ?_
          refine lv_if_ne (tgt := 118) hx hb dX1_uniteRows_111 (by decide) (fun c_24 => ?_) (fun c_24 => ?_)
          · skip
            refine lv_iconst (v := 0) hx hb dX1_uniteRows_118 (by decide) ?_
            exact kk _ _ _ hM hS (by simp [mm_b, c_22, c_23, c_24])
          · skip
            refine lv_iconst (v := 1) hx hb dX1_uniteRows_114 (by decide) ?_
            refine lv_goto (tgt := 119) hx hb dX1_uniteRows_115 (by decide) ?_
            exact kk _ _ _ hM hS (by simp [mm_b, c_22, c_23, c_24])
      · skip
        exact absurd (hhL.1.resolve_right (fun h9 => h9 rfl)) c_22
    · skip
      obtain ⟨hlv, htv, hnv⟩ := hE1 v rfl
      obtain ⟨hcv, hsv⟩ := hC2.rootR hlv htv hnv
      obtain ⟨hlw, htw, hnw⟩ := hE2 w rfl
      obtain ⟨hcw, hsw⟩ := hC2.rootR hlw htw hnw
      refine lv_iload hx hb dX1_uniteRows_78 (lv_at hl 1 rfl) ?_
      refine lv_if_eq (tgt := 96) hx hb dX1_uniteRows_80 (by decide) (fun c_22 => ?_) (fun c_22 => ?_)
      · skip
        refine lv_iload hx hb dX1_uniteRows_96 (lv_at hl 0 rfl) ?_
        refine lv_if_eq (tgt := 114) hx hb dX1_uniteRows_98 (by decide) (fun c_23 => ?_) (fun c_23 => ?_)
        · skip
          refine lv_iconst (v := 1) hx hb dX1_uniteRows_114 (by decide) ?_
          refine lv_goto (tgt := 119) hx hb dX1_uniteRows_115 (by decide) ?_
          exact kk _ _ _ hM hS (by simp [mm_b, c_22, c_23])
        · skip
          refine lv_aload_n hx hb dX1_uniteRows_101 rfl (lv_at hl 3 rfl) ?_
          refine va_getN (D := Z.1) (ci := 17) (v := .ref (vr v)) (C := RX22) (T := TX22) (N := 3) hx hb hts in_X22 hown hE.1 (hM.at hfc1) 0 rfl mm_cX22 1 (by decide) (va_Nw.use rfl (hE.2.1 _ q1217 rfl)) (fun _ h9 => h9) rfl dX1_uniteRows_102 ?_
          refine va_getN (D := Z.1) (ci := 12) (v := .int (S.2.2.2.1 v)) (C := RX15) (T := TX15) (N := 4) hx hb hts in_X15 hown hE.1 (hM.at hcv) 0 rfl mm_cX15 3 (by decide) (va_Nw.use rfl (hE.2.1 _ q934 rfl)) (fun _ h9 => h9) rfl dX1_uniteRows_105 ?_
          refine lv_iload hx hb dX1_uniteRows_108 (lv_at hl 0 rfl) ?_
          refine lv_iand hx hb dX1_uniteRows_110 ?_
          refine lv_if_ne (tgt := 118) hx hb dX1_uniteRows_111 (by decide) (fun c_24 => ?_) (fun c_24 => ?_)
          · skip
            refine lv_iconst (v := 0) hx hb dX1_uniteRows_118 (by decide) ?_
            exact kk _ _ _ hM hS (by simp [mm_b, c_22, c_23, c_24])
          · skip
            refine lv_iconst (v := 1) hx hb dX1_uniteRows_114 (by decide) ?_
            refine lv_goto (tgt := 119) hx hb dX1_uniteRows_115 (by decide) ?_
            exact kk _ _ _ hM hS (by simp [mm_b, c_22, c_23, c_24])
      · skip
        refine lv_aload_n hx hb dX1_uniteRows_83 rfl (lv_at hl 2 rfl) ?_
        refine va_getN (D := Z.1) (ci := 17) (v := .ref (vr w)) (C := RX22) (T := TX22) (N := 3) hx hb hts in_X22 hown hE.1 (hM.at hfc2) 0 rfl mm_cX22 1 (by decide) (va_Nw.use rfl (hE.2.1 _ q1217 rfl)) (fun _ h9 => h9) rfl dX1_uniteRows_84 ?_
        refine va_getN (D := Z.1) (ci := 12) (v := .int (S.2.2.2.1 w)) (C := RX15) (T := TX15) (N := 4) hx hb hts in_X15 hown hE.1 (hM.at hcw) 0 rfl mm_cX15 3 (by decide) (va_Nw.use rfl (hE.2.1 _ q934 rfl)) (fun _ h9 => h9) rfl dX1_uniteRows_87 ?_
        refine lv_iload hx hb dX1_uniteRows_90 (lv_at hl 1 rfl) ?_
        refine lv_iand hx hb dX1_uniteRows_92 ?_
        refine lv_if_ne (tgt := 118) hx hb dX1_uniteRows_93 (by decide) (fun c_23 => ?_) (fun c_23 => ?_)
        · skip
          refine lv_iconst (v := 0) hx hb dX1_uniteRows_118 (by decide) ?_
          exact kk _ _ _ hM hS (by simp [mm_b, c_22, c_23])
        · skip
          refine lv_iload hx hb dX1_uniteRows_96 (lv_at hl 0 rfl) ?_
          refine lv_if_eq (tgt := 114) hx hb dX1_uniteRows_98 (by decide) (fun c_24 => ?_) (fun c_24 => ?_)
          · skip
            refine lv_iconst (v := 1) hx hb dX1_uniteRows_114 (by decide) ?_
            refine lv_goto (tgt := 119) hx hb dX1_uniteRows_115 (by decide) ?_
            exact kk _ _ _ hM hS (by simp [mm_b, c_22, c_23, c_24])
          · skip
            refine lv_aload_n hx hb dX1_uniteRows_101 rfl (lv_at hl 3 rfl) ?_
            refine va_getN (D := Z.1) (ci := 17) (v := .ref (vr v)) (C := RX22) (T := TX22) (N := 3) hx hb hts in_X22 hown hE.1 (hM.at hfc1) 0 rfl mm_cX22 1 (by decide) (va_Nw.use rfl (hE.2.1 _ q1217 rfl)) (fun _ h9 => h9) rfl dX1_uniteRows_102 ?_
            refine va_getN (D := Z.1) (ci := 12) (v := .int (S.2.2.2.1 v)) (C := RX15) (T := TX15) (N := 4) hx hb hts in_X15 hown hE.1 (hM.at hcv) 0 rfl mm_cX15 3 (by decide) (va_Nw.use rfl (hE.2.1 _ q934 rfl)) (fun _ h9 => h9) rfl dX1_uniteRows_105 ?_
            refine lv_iload hx hb dX1_uniteRows_108 (lv_at hl 0 rfl) ?_
            refine lv_iand hx hb dX1_uniteRows_110 ?_
            refine lv_if_ne (tgt := 118) hx hb dX1_uniteRows_111 (by decide) (fun c_25 => ?_) (fun c_25 => ?_)
            · skip
              refine lv_iconst (v := 0) hx hb dX1_uniteRows_118 (by decide) ?_
              exact kk _ _ _ hM hS (by simp [mm_b, c_22, c_23, c_24, c_25])
            · skip
              refine lv_iconst (v := 1) hx hb dX1_uniteRows_114 (by decide) ?_
              refine lv_goto (tgt := 119) hx hb dX1_uniteRows_115 (by decide) ?_
              exact kk _ _ _ hM hS (by simp [mm_b, c_22, c_23, c_24, c_25])
  refine lv_iconst (v := 4) hx hb dX1_uniteRows_119 (by decide) ?_
  refine mm_callS (As := [.int (mm_b (decide ((own = 0 ∨ ∀ w, E2 = some w → S.2.2.2.1 w &&& own = 0) ∧ (its = 0 ∨ ∀ v, E1 = some v → S.2.2.2.1 v &&& its = 0)))), .int 4]) (rest := []) ⟨hx, hb, hml, hown, hts⟩ hE hST hA (c_X1_must l Z htr (M := M_15) (b := decide ((own = 0 ∨ ∀ w, E2 = some w → S.2.2.2.1 w &&& own = 0) ∧ (its = 0 ∨ ∀ v, E1 = some v → S.2.2.2.1 v &&& its = 0))) (er := 4)) (va_cwS 2 hts (lw_S q1230 q1231 q50 q1232) rfl rfl rfl (by decide +kernel) ⟨(by (try dsimp only); omega), (by (try dsimp only); omega)⟩) hM hS rfl hl.1 (Nat.le_of_ble_eq_true rfl) dX1_uniteRows_120 rfl ⟨(by (try dsimp only); omega), (by (try dsimp only); omega)⟩ (fun E ce q M9 H1 locs1 hp9 hM9 hS9 hce hcv hcl => by obtain ⟨hb9, hp9⟩ := hp9; have hb9 := of_decide_eq_false hb9; exact mm_outxD htab hlk hM9 hS9 hce hcv hcl ⟨4, by rw [if_pos hb9] at hr9; exact (Option.some.inj hr9).symm, (uX.of hp9).afterK hex.uK⟩ (by (try dsimp only); omega) (by (try dsimp only); omega)) (fun v_22 M_23 H locs hp_24 hM hS => ?_)
  obtain ⟨hhT, rfl, eM_23⟩ := hp_24
  rw [eM_23] at hM
  replace hhT : ((own = 0 ∨ ∀ w, E2 = some w → S.2.2.2.1 w &&& own = 0) ∧ (its = 0 ∨ ∀ v, E1 = some v → S.2.2.2.1 v &&& its = 0)) := of_decide_eq_true hhT
  rw [if_neg (not_not_intro hhT)] at hr9
  have hPM : uPhi M_15 L = uPhi M L := hex.uL.phi hC.2.2.1
  have hBgo2 : ∀ b, uB Z M L vr S b → uB Z M_15 L vr S b := fun b h => h.go hC hC2 hex.uK (fun _ h => h) (fun _ _ => rfl) (Nat.le_refl _) hC.1.1.le (fun a h1 h2 => absurd h1 h2)
  have hBB2 := hBgo2 b hB9
  have ho : ∀ l, l < 10 → uhs own l = ((uget (uap S.2.1 r1) l).isSome && !(uget (uap S.2.1 r2) l).isSome) := fun l hl => by rw [hown9, uhs_and hl, uhs_not hl, hB1 l hl, hB2 l hl, hU1, hU2]
  have hi : ∀ l, l < 10 → uhs its l = ((uget (uap S.2.1 r2) l).isSome && !(uget (uap S.2.1 r1) l).isSome) := fun l hl => by rw [hits9, uhs_and hl, uhs_not hl, hB1 l hl, hB2 l hl, hU1, hU2]
  have hT1 : ∀ w, uend (uap S.2.1 r2) = some w → ∀ l, l < 10 → uhs (S.2.2.2.1 w) l = true → uhs own l = false := by
    intro w hw l hl h1
    rcases hhT.1 with h9 | h9
    · rw [h9]; exact uhs_0 hl
    · have h8 := h9 w (hV2.trans hw)
      have h7 : uhs (S.2.2.2.1 w &&& own) l = false := by rw [h8]; exact uhs_0 hl
      rw [uhs_and hl, h1, Bool.true_and] at h7; exact h7
  have hT2 : ∀ w, uend (uap S.2.1 r1) = some w → ∀ l, l < 10 → uhs (S.2.2.2.1 w) l = true → uhs its l = false := by
    intro w hw l hl h1
    rcases hhT.2 with h9 | h9
    · rw [h9]; exact uhs_0 hl
    · have h8 := h9 w (hV1.trans hw)
      have h7 : uhs (S.2.2.2.1 w &&& its) l = false := by rw [h8]; exact uhs_0 hl
      rw [uhs_and hl, h1, Bool.true_and] at h7; exact h7
  have hs1 : ∀ l, l < 10 → uhs own l = true → f1 l ≠ none := fun l hl h1 h2 => by rw [ho l hl, ← hU1, h2] at h1; simp at h1
  have hs2 : ∀ l, l < 10 → uhs its l = true → f2 l ≠ none := fun l hl h1 h2 => by rw [hi l hl, ← hU2, h2] at h1; simp at h1
  refine mm_cutM (pc2 := 184) (rest2 := []) (A := A) (Z := Z) (H0 := s.heap) (fun M' ls' c2 s2 => lv_has ls' 7 [(3, .ref q_11), (2, .ref q_2)] ∧ ∃ (S1 : ts) (L1 : List Nat) (vr1 : Nat → Nat) (kd1 : Nat → Bool), tLabs (tU n) f1 f2 (B1 &&& B2) 10 S1 = some r ∧ uGo S kd S1 kd1 ∧ uK M_15 M' ∧ uCI Z M' L1 vr1 S1 ∧ (∀ a ∈ L, a ∈ L1) ∧ (∀ v, v < S.1 → vr1 v = vr v) ∧ S.1 ≤ S1.1 ∧ uPhi M' L1 ≤ uPhi M L ∧ uNw M' L L1 ∧ c2 + 27 * uPhi M' L1 ≤ 27 * uPhi M L + 9 ∧ s2 + 70 * uPhi M' L1 ≤ 70 * uPhi M L + 55 ∧ L1.length + uPhi M' L1 ≤ L.length + uPhi M L ∧ ∀ z, M z ≠ none → unext M z = none → unext M' z ≠ none → uVar M z) (fun kk => ?_) (fun M3 ls H locs cells slots hI hM hS => ?_)
  · skip
    rcases E1 with _ | v <;> rcases E2 with _ | w
    · skip
      refine lv_aload_n hx hb dX1_uniteRows_123 rfl (lv_at hl 3 rfl) ?_
      refine va_getN (D := Z.1) (ci := 17) (v := .null) (C := RX22) (T := TX22) (N := 3) hx hb hts in_X22 hown hE.1 (hM.at hfc1) 0 rfl mm_cX22 1 (by decide) (va_Nw.use rfl (hE.2.1 _ q1217 rfl)) (fun _ h9 => h9) rfl dX1_uniteRows_124 ?_
      refine lv_ifnullN (tgt := 161) hx hb dX1_uniteRows_127 (by decide) ?_
      refine lv_aload_n hx hb dX1_uniteRows_161 rfl (lv_at hl 3 rfl) ?_
      refine va_getN (D := Z.1) (ci := 17) (v := .null) (C := RX22) (T := TX22) (N := 3) hx hb hts in_X22 hown hE.1 (hM.at hfc1) 0 rfl mm_cX22 1 (by decide) (va_Nw.use rfl (hE.2.1 _ q1217 rfl)) (fun _ h9 => h9) rfl dX1_uniteRows_162 ?_
      refine lv_ifnonnullN hx hb dX1_uniteRows_165 ?_
      refine lv_aload_n hx hb dX1_uniteRows_168 rfl (lv_at hl 2 rfl) ?_
      refine va_getN (D := Z.1) (ci := 17) (v := .null) (C := RX22) (T := TX22) (N := 3) hx hb hts in_X22 hown hE.1 (hM.at hfc2) 0 rfl mm_cX22 1 (by decide) (va_Nw.use rfl (hE.2.1 _ q1217 rfl)) (fun _ h9 => h9) rfl dX1_uniteRows_169 ?_
      refine lv_ifnullN (tgt := 184) hx hb dX1_uniteRows_172 (by decide) ?_
      refine kk _ ls _ _ _ _ ⟨lv_sub hl [2, 3] rfl, S, L, vr, kd, ?_, uGo.rf hG, uK.rf _, hC2, fun _ h => h, fun _ _ => rfl, Nat.le_refl _, by rw [hPM]; exact Nat.le_refl _, uNw.rf _ _, by rw [hPM]; (try dsimp only); omega, by rw [hPM]; (try dsimp only); omega, by rw [hPM]; exact Nat.le_refl _, fun z hz1 hz2 hz3 => ?_⟩ hM hS
      · simpa [to_b] using hr9
      · exact absurd (by rw [← hz2]; unfold unext; rw [hex z hz1]) hz3
    · skip
      obtain ⟨hlw, htw, hnw⟩ := hE2 w rfl
      obtain ⟨hcw, hsw⟩ := hC2.rootR hlw htw hnw
      refine lv_aload_n hx hb dX1_uniteRows_123 rfl (lv_at hl 3 rfl) ?_
      refine va_getN (D := Z.1) (ci := 17) (v := .null) (C := RX22) (T := TX22) (N := 3) hx hb hts in_X22 hown hE.1 (hM.at hfc1) 0 rfl mm_cX22 1 (by decide) (va_Nw.use rfl (hE.2.1 _ q1217 rfl)) (fun _ h9 => h9) rfl dX1_uniteRows_124 ?_
      refine lv_ifnullN (tgt := 161) hx hb dX1_uniteRows_127 (by decide) ?_
      refine lv_aload_n hx hb dX1_uniteRows_161 rfl (lv_at hl 3 rfl) ?_
      refine va_getN (D := Z.1) (ci := 17) (v := .null) (C := RX22) (T := TX22) (N := 3) hx hb hts in_X22 hown hE.1 (hM.at hfc1) 0 rfl mm_cX22 1 (by decide) (va_Nw.use rfl (hE.2.1 _ q1217 rfl)) (fun _ h9 => h9) rfl dX1_uniteRows_162 ?_
      refine lv_ifnonnullN hx hb dX1_uniteRows_165 ?_
      refine lv_aload_n hx hb dX1_uniteRows_168 rfl (lv_at hl 2 rfl) ?_
      refine va_getN (D := Z.1) (ci := 17) (v := .ref (vr w)) (C := RX22) (T := TX22) (N := 3) hx hb hts in_X22 hown hE.1 (hM.at hfc2) 0 rfl mm_cX22 1 (by decide) (va_Nw.use rfl (hE.2.1 _ q1217 rfl)) (fun _ h9 => h9) rfl dX1_uniteRows_169 ?_
      refine lv_ifnull hx hb dX1_uniteRows_172 ?_
      refine lv_aload_n hx hb dX1_uniteRows_175 rfl (lv_at hl 3 rfl) ?_
      refine lv_aload_n hx hb dX1_uniteRows_176 rfl (lv_at hl 2 rfl) ?_
      refine lv_iload hx hb dX1_uniteRows_177 (lv_at hl 1 rfl) ?_
      refine lv_iload hx hb dX1_uniteRows_179 (lv_at hl 0 rfl) ?_
      have hc9 : ¬ ((none : Option Nat) ≠ none ∧ (none : Option Nat) = some w) := fun h9 => by rcases h9 with ⟨h8, h7⟩; simp at h8 h7
      rw [if_neg hc9, if_pos (by simp)] at hr9
      refine mm_callSD (As := [.ref q_2, .ref q_11, .int own, .int its]) (rest := []) ⟨hx, hb, hml, hown, hts⟩ hE hST hA (d_X1_join l Z htr (e1 := none) (e2 := some w) (Hh := Hh) hC2 hs1 hs2 (by simp) (fun u h9 h8 => by simp at h9 h8) hFA1 hFA2 hBB2 hH) (va_cwS 4 hts (lw_S q1235 q1236 q50 q1237) rfl rfl rfl (by decide +kernel) ⟨(by (try dsimp only); omega), (by (try dsimp only); omega)⟩) hM hS rfl hl.1 (Nat.le_of_ble_eq_true rfl) dX1_uniteRows_181 rfl ⟨(by (try dsimp only); omega), (by (try dsimp only); omega)⟩ (fun E ce q M9 H1 locs1 hp9 hM9 hS9 hce hcv hcl => by obtain ⟨er9, he9, hx9⟩ := hp9; exact mm_outxD htab hlk hM9 hS9 hce hcv hcl ⟨er9, by rw [he9] at hr9; exact (Option.some.inj hr9).symm, hx9.afterK hex.uK⟩ (by (try dsimp only); omega) (by (try dsimp only); omega)) (fun v_25 M_26 n_28 k_29 H locs hp_27 hM hS => ?_)
      obtain ⟨rfl, hn4, hk4, S1, L1, vr1, hJ, hK4, hC4, hL4, hv4, hn14, hP4, hLL4, hle4, hnr4, hx4⟩ := hp_27
      rw [hJ] at hr9
      obtain ⟨kd1, hg1, -⟩ := tJoin_good hG hw1 hw2 (hG.1.le r1) (hG.1.le r2) hU1 hU2 ho hi (fun u h9 h8 => by have h7 := hV1.trans h9; have h6 := hV2.trans h8; first | (cases h7; done) | (cases h6; done) | exact hc9 ⟨by simp, h7.trans h6.symm⟩) hT1 hT2 (by rw [← hV1, ← hV2]; exact hJ)
      refine kk _ ls _ _ _ _ ⟨lv_sub hl [2, 3] rfl, S1, L1, vr1, kd1, hr9, hg1, hK4, hC4, hL4, hv4, hn14, by omega, hnr4, by (try dsimp only); omega, by (try dsimp only); omega, by omega, fun z hz1 hz2 hz3 => ?_⟩ hM hS
      refine Classical.byContradiction fun h9 => hz3 ?_
      rw [hx4 z (by rw [hex z hz1]; exact hz1) (fun u hu h8 => h9 (h8 ▸ hC.isVar ?_)), ← hz2]
      · unfold unext; rw [hex z hz1]
      · rcases hu with hu | hu <;> cases hu <;> first | exact hlv | exact hlw
    · skip
      obtain ⟨hlv, htv, hnv⟩ := hE1 v rfl
      obtain ⟨hcv, hsv⟩ := hC2.rootR hlv htv hnv
      refine lv_aload_n hx hb dX1_uniteRows_123 rfl (lv_at hl 3 rfl) ?_
      refine va_getN (D := Z.1) (ci := 17) (v := .ref (vr v)) (C := RX22) (T := TX22) (N := 3) hx hb hts in_X22 hown hE.1 (hM.at hfc1) 0 rfl mm_cX22 1 (by decide) (va_Nw.use rfl (hE.2.1 _ q1217 rfl)) (fun _ h9 => h9) rfl dX1_uniteRows_124 ?_
      refine lv_ifnull hx hb dX1_uniteRows_127 ?_
      refine lv_aload_n hx hb dX1_uniteRows_130 rfl (lv_at hl 3 rfl) ?_
      refine va_getN (D := Z.1) (ci := 17) (v := .ref (vr v)) (C := RX22) (T := TX22) (N := 3) hx hb hts in_X22 hown hE.1 (hM.at hfc1) 0 rfl mm_cX22 1 (by decide) (va_Nw.use rfl (hE.2.1 _ q1217 rfl)) (fun _ h9 => h9) rfl dX1_uniteRows_131 ?_
      refine lv_aload_n hx hb dX1_uniteRows_134 rfl (lv_at hl 2 rfl) ?_
      refine va_getN (D := Z.1) (ci := 17) (v := .null) (C := RX22) (T := TX22) (N := 3) hx hb hts in_X22 hown hE.1 (hM.at hfc2) 0 rfl mm_cX22 1 (by decide) (va_Nw.use rfl (hE.2.1 _ q1217 rfl)) (fun _ h9 => h9) rfl dX1_uniteRows_135 ?_
      refine lv_acmp_ne (rx := (some (vr v))) (ry := none) (tgt := 161) hx hb dX1_uniteRows_138 (by decide) (fun c_25 => ?_) (fun c_25 => ?_)
      · skip
        refine lv_aload_n hx hb dX1_uniteRows_161 rfl (lv_at hl 3 rfl) ?_
        refine va_getN (D := Z.1) (ci := 17) (v := .ref (vr v)) (C := RX22) (T := TX22) (N := 3) hx hb hts in_X22 hown hE.1 (hM.at hfc1) 0 rfl mm_cX22 1 (by decide) (va_Nw.use rfl (hE.2.1 _ q1217 rfl)) (fun _ h9 => h9) rfl dX1_uniteRows_162 ?_
        refine lv_ifnonnull (tgt := 175) hx hb dX1_uniteRows_165 (by decide) ?_
        refine lv_aload_n hx hb dX1_uniteRows_175 rfl (lv_at hl 3 rfl) ?_
        refine lv_aload_n hx hb dX1_uniteRows_176 rfl (lv_at hl 2 rfl) ?_
        refine lv_iload hx hb dX1_uniteRows_177 (lv_at hl 1 rfl) ?_
        refine lv_iload hx hb dX1_uniteRows_179 (lv_at hl 0 rfl) ?_
        have hc9 : ¬ ((some v : Option Nat) ≠ none ∧ (some v : Option Nat) = none) := fun h9 => by rcases h9 with ⟨h8, h7⟩; simp at h8 h7
        rw [if_neg hc9, if_pos (by simp)] at hr9
        refine mm_callSD (As := [.ref q_2, .ref q_11, .int own, .int its]) (rest := []) ⟨hx, hb, hml, hown, hts⟩ hE hST hA (d_X1_join l Z htr (e1 := some v) (e2 := none) (Hh := Hh) hC2 hs1 hs2 (by simp) (fun u h9 h8 => by simp at h9 h8) hFA1 hFA2 hBB2 hH) (va_cwS 4 hts (lw_S q1235 q1236 q50 q1237) rfl rfl rfl (by decide +kernel) ⟨(by (try dsimp only); omega), (by (try dsimp only); omega)⟩) hM hS rfl hl.1 (Nat.le_of_ble_eq_true rfl) dX1_uniteRows_181 rfl ⟨(by (try dsimp only); omega), (by (try dsimp only); omega)⟩ (fun E ce q M9 H1 locs1 hp9 hM9 hS9 hce hcv hcl => by obtain ⟨er9, he9, hx9⟩ := hp9; exact mm_outxD htab hlk hM9 hS9 hce hcv hcl ⟨er9, by rw [he9] at hr9; exact (Option.some.inj hr9).symm, hx9.afterK hex.uK⟩ (by (try dsimp only); omega) (by (try dsimp only); omega)) (fun v_26 M_27 n_29 k_30 H locs hp_28 hM hS => ?_)
        obtain ⟨rfl, hn4, hk4, S1, L1, vr1, hJ, hK4, hC4, hL4, hv4, hn14, hP4, hLL4, hle4, hnr4, hx4⟩ := hp_28
        rw [hJ] at hr9
        obtain ⟨kd1, hg1, -⟩ := tJoin_good hG hw1 hw2 (hG.1.le r1) (hG.1.le r2) hU1 hU2 ho hi (fun u h9 h8 => by have h7 := hV1.trans h9; have h6 := hV2.trans h8; first | (cases h7; done) | (cases h6; done) | exact hc9 ⟨by simp, h7.trans h6.symm⟩) hT1 hT2 (by rw [← hV1, ← hV2]; exact hJ)
        refine kk _ ls _ _ _ _ ⟨lv_sub hl [2, 3] rfl, S1, L1, vr1, kd1, hr9, hg1, hK4, hC4, hL4, hv4, hn14, by omega, hnr4, by (try dsimp only); omega, by (try dsimp only); omega, by omega, fun z hz1 hz2 hz3 => ?_⟩ hM hS
        refine Classical.byContradiction fun h9 => hz3 ?_
        rw [hx4 z (by rw [hex z hz1]; exact hz1) (fun u hu h8 => h9 (h8 ▸ hC.isVar ?_)), ← hz2]
        · unfold unext; rw [hex z hz1]
        · rcases hu with hu | hu <;> cases hu <;> first | exact hlv | exact hlw
      · skip
        cases c_25
    · skip
      obtain ⟨hlv, htv, hnv⟩ := hE1 v rfl
      obtain ⟨hcv, hsv⟩ := hC2.rootR hlv htv hnv
      obtain ⟨hlw, htw, hnw⟩ := hE2 w rfl
      obtain ⟨hcw, hsw⟩ := hC2.rootR hlw htw hnw
      refine lv_aload_n hx hb dX1_uniteRows_123 rfl (lv_at hl 3 rfl) ?_
      refine va_getN (D := Z.1) (ci := 17) (v := .ref (vr v)) (C := RX22) (T := TX22) (N := 3) hx hb hts in_X22 hown hE.1 (hM.at hfc1) 0 rfl mm_cX22 1 (by decide) (va_Nw.use rfl (hE.2.1 _ q1217 rfl)) (fun _ h9 => h9) rfl dX1_uniteRows_124 ?_
      refine lv_ifnull hx hb dX1_uniteRows_127 ?_
      refine lv_aload_n hx hb dX1_uniteRows_130 rfl (lv_at hl 3 rfl) ?_
      refine va_getN (D := Z.1) (ci := 17) (v := .ref (vr v)) (C := RX22) (T := TX22) (N := 3) hx hb hts in_X22 hown hE.1 (hM.at hfc1) 0 rfl mm_cX22 1 (by decide) (va_Nw.use rfl (hE.2.1 _ q1217 rfl)) (fun _ h9 => h9) rfl dX1_uniteRows_131 ?_
      refine lv_aload_n hx hb dX1_uniteRows_134 rfl (lv_at hl 2 rfl) ?_
      refine va_getN (D := Z.1) (ci := 17) (v := .ref (vr w)) (C := RX22) (T := TX22) (N := 3) hx hb hts in_X22 hown hE.1 (hM.at hfc2) 0 rfl mm_cX22 1 (by decide) (va_Nw.use rfl (hE.2.1 _ q1217 rfl)) (fun _ h9 => h9) rfl dX1_uniteRows_135 ?_
      refine lv_acmp_ne (rx := (some (vr v))) (ry := (some (vr w))) (tgt := 161) hx hb dX1_uniteRows_138 (by decide) (fun c_25 => ?_) (fun c_25 => ?_)
      · skip
        refine lv_aload_n hx hb dX1_uniteRows_161 rfl (lv_at hl 3 rfl) ?_
        refine va_getN (D := Z.1) (ci := 17) (v := .ref (vr v)) (C := RX22) (T := TX22) (N := 3) hx hb hts in_X22 hown hE.1 (hM.at hfc1) 0 rfl mm_cX22 1 (by decide) (va_Nw.use rfl (hE.2.1 _ q1217 rfl)) (fun _ h9 => h9) rfl dX1_uniteRows_162 ?_
        refine lv_ifnonnull (tgt := 175) hx hb dX1_uniteRows_165 (by decide) ?_
        refine lv_aload_n hx hb dX1_uniteRows_175 rfl (lv_at hl 3 rfl) ?_
        refine lv_aload_n hx hb dX1_uniteRows_176 rfl (lv_at hl 2 rfl) ?_
        refine lv_iload hx hb dX1_uniteRows_177 (lv_at hl 1 rfl) ?_
        refine lv_iload hx hb dX1_uniteRows_179 (lv_at hl 0 rfl) ?_
        have hc9 : ¬ ((some v : Option Nat) ≠ none ∧ (some v : Option Nat) = some w) := fun h9 => by have h8 := Option.some.inj h9.2; subst h8; exact c_25 rfl
        rw [if_neg hc9, if_pos (by simp)] at hr9
        refine mm_callSD (As := [.ref q_2, .ref q_11, .int own, .int its]) (rest := []) ⟨hx, hb, hml, hown, hts⟩ hE hST hA (d_X1_join l Z htr (e1 := some v) (e2 := some w) (Hh := Hh) hC2 hs1 hs2 (by simp) (fun u h9 h8 => by cases h9; cases h8; exact c_25 rfl) hFA1 hFA2 hBB2 hH) (va_cwS 4 hts (lw_S q1235 q1236 q50 q1237) rfl rfl rfl (by decide +kernel) ⟨(by (try dsimp only); omega), (by (try dsimp only); omega)⟩) hM hS rfl hl.1 (Nat.le_of_ble_eq_true rfl) dX1_uniteRows_181 rfl ⟨(by (try dsimp only); omega), (by (try dsimp only); omega)⟩ (fun E ce q M9 H1 locs1 hp9 hM9 hS9 hce hcv hcl => by obtain ⟨er9, he9, hx9⟩ := hp9; exact mm_outxD htab hlk hM9 hS9 hce hcv hcl ⟨er9, by rw [he9] at hr9; exact (Option.some.inj hr9).symm, hx9.afterK hex.uK⟩ (by (try dsimp only); omega) (by (try dsimp only); omega)) (fun v_26 M_27 n_29 k_30 H locs hp_28 hM hS => ?_)
        obtain ⟨rfl, hn4, hk4, S1, L1, vr1, hJ, hK4, hC4, hL4, hv4, hn14, hP4, hLL4, hle4, hnr4, hx4⟩ := hp_28
        rw [hJ] at hr9
        obtain ⟨kd1, hg1, -⟩ := tJoin_good hG hw1 hw2 (hG.1.le r1) (hG.1.le r2) hU1 hU2 ho hi (fun u h9 h8 => by have h7 := hV1.trans h9; have h6 := hV2.trans h8; first | (cases h7; done) | (cases h6; done) | exact hc9 ⟨by simp, h7.trans h6.symm⟩) hT1 hT2 (by rw [← hV1, ← hV2]; exact hJ)
        refine kk _ ls _ _ _ _ ⟨lv_sub hl [2, 3] rfl, S1, L1, vr1, kd1, hr9, hg1, hK4, hC4, hL4, hv4, hn14, by omega, hnr4, by (try dsimp only); omega, by (try dsimp only); omega, by omega, fun z hz1 hz2 hz3 => ?_⟩ hM hS
        refine Classical.byContradiction fun h9 => hz3 ?_
        rw [hx4 z (by rw [hex z hz1]; exact hz1) (fun u hu h8 => h9 (h8 ▸ hC.isVar ?_)), ← hz2]
        · unfold unext; rw [hex z hz1]
        · rcases hu with hu | hu <;> cases hu <;> first | exact hlv | exact hlw
      · skip
        have hvw : v = w := hC2.1.2.2.1 v w hlv hlw (Option.some.inj c_25)
        subst hvw
        rw [if_pos ⟨by simp, rfl⟩] at hr9
        refine mm_cutW (v0 := mm_b (decide ((own ||| its) = 0))) (pc2 := 154) (ls := ls) (rest := []) (M := M_15) (fun kk9 => ?_) (fun H locs hM hS => ?_) hM hS
        · skip
          refine lv_iload hx hb dX1_uniteRows_141 (lv_at hl 1 rfl) ?_
          refine lv_iload hx hb dX1_uniteRows_143 (lv_at hl 0 rfl) ?_
          refine lv_ior hx hb dX1_uniteRows_145 ?_
          refine lv_if_ne (tgt := 153) hx hb dX1_uniteRows_146 (by decide) (fun c_26 => ?_) (fun c_26 => ?_)
          · skip
            refine lv_iconst (v := 0) hx hb dX1_uniteRows_153 (by decide) ?_
            exact kk9 _ _ _ hM hS (by simp [mm_b, c_26])
          · skip
            refine lv_iconst (v := 1) hx hb dX1_uniteRows_149 (by decide) ?_
            refine lv_goto (tgt := 154) hx hb dX1_uniteRows_150 (by decide) ?_
            exact kk9 _ _ _ hM hS (by simp [mm_b, c_26])
        refine lv_iconst (v := 3) hx hb dX1_uniteRows_154 (by decide) ?_
        refine mm_callS (As := [.int (mm_b (decide ((own ||| its) = 0))), .int 3]) (rest := []) ⟨hx, hb, hml, hown, hts⟩ hE hST hA (c_X1_must l Z htr (M := M_15) (b := decide ((own ||| its) = 0)) (er := 3)) (va_cwS 2 hts (lw_S q1230 q1231 q50 q1232) rfl rfl rfl (by decide +kernel) ⟨(by (try dsimp only); omega), (by (try dsimp only); omega)⟩) hM hS rfl hl.1 (Nat.le_of_ble_eq_true rfl) dX1_uniteRows_155 rfl ⟨(by (try dsimp only); omega), (by (try dsimp only); omega)⟩ (fun E ce q M9 H1 locs1 hp9 hM9 hS9 hce hcv hcl => by obtain ⟨hb9, hp9⟩ := hp9; have hb9 := of_decide_eq_false hb9; exact mm_outxD htab hlk hM9 hS9 hce hcv hcl ⟨3, by rw [if_neg hb9] at hr9; exact (Option.some.inj hr9).symm, (uX.of hp9).afterK hex.uK⟩ (by (try dsimp only); omega) (by (try dsimp only); omega)) (fun v_26 M_27 H locs hp_28 hM hS => ?_)
        obtain ⟨hE9, rfl, eM_27⟩ := hp_28
        rw [eM_27] at hM
        replace hE9 : ((own ||| its) = 0) := of_decide_eq_true hE9
        rw [if_pos hE9] at hr9
        refine lv_goto (tgt := 184) hx hb dX1_uniteRows_158 (by decide) ?_
        refine kk _ ls _ _ _ _ ⟨lv_sub hl [2, 3] rfl, S, L, vr, kd, ?_, uGo.rf hG, uK.rf _, hC2, fun _ h => h, fun _ _ => rfl, Nat.le_refl _, by rw [hPM]; exact Nat.le_refl _, uNw.rf _ _, by rw [hPM]; (try dsimp only); omega, by rw [hPM]; (try dsimp only); omega, by rw [hPM]; exact Nat.le_refl _, fun z hz1 hz2 hz3 => ?_⟩ hM hS
        · exact hr9
        · exact absurd (by rw [← hz2]; unfold unext; rw [hex z hz1]) hz3
  obtain ⟨hl, S1, L1, vr1, kd1, hr1, hg1, hK1, hCC1, hLL1, hvv1, hnn1, hPP1, hBB1, hcc1, hss1, hln1, hzz1⟩ := hI
  refine lv_iconst (v := 0) hx hb dX1_uniteRows_184 (by decide) ?_
  refine lv_istore hx hb dX1_uniteRows_185 hl (by decide) rfl (fun ls hl => ?_)
  replace hl : lv_has ls 7 [(6, .int 0), (3, .ref q_11), (2, .ref q_2)] := hl
  refine mm_loopW (fun k M' ls' c2 s2 => ∃ i, k = 10 - i ∧ i ≤ 10 ∧ lv_has ls' 7 [(6, .int (nI i)), (3, .ref q_11), (2, .ref q_2)] ∧ ∃ (S1 : ts) (L1 : List Nat) (vr1 : Nat → Nat) (kd1 : Nat → Bool), tLabs (tU n) f1 f2 (B1 &&& B2) (10 - i) S1 = some r ∧ uGo S kd S1 kd1 ∧ uK M_15 M' ∧ uCI Z M' L1 vr1 S1 ∧ (∀ a ∈ L, a ∈ L1) ∧ (∀ v, v < S.1 → vr1 v = vr v) ∧ S.1 ≤ S1.1 ∧ uPhi M' L1 ≤ uPhi M L ∧ uNw M' L L1 ∧ c2 + 27 * uPhi M' L1 ≤ 27 * uPhi M L + 9 ∧ s2 + 70 * uPhi M' L1 ≤ 70 * uPhi M L + 55 ∧ L1.length + uPhi M' L1 ≤ L.length + uPhi M L ∧ ∀ z, M z ≠ none → unext M z = none → unext M' z ≠ none → uVar M z ∨ ∃ t, tp Z M' L1 vr1 S1.1 t false z ∧ ∀ s, SizeOf.sizeOf (uap s (uap S1.2.1 t)) ≤ SizeOf.sizeOf (uap s (uap S1.2.1 r1))) (fun k M4 ls H locs cells slots ihl hI hM hS => ?_) ⟨0, rfl, Nat.zero_le _, lv_sub hl [0, 1, 2] rfl, S1, L1, vr1, kd1, hr1, hg1, hK1, hCC1, hLL1, hvv1, hnn1, hPP1, hBB1, hcc1, hss1, hln1, fun z h7 h8 h9 => Or.inl (hzz1 z h7 h8 h9)⟩ hM hS
  clear hl hr1 hg1 hK1 hCC1 hLL1 hvv1 hnn1 hPP1 hBB1 hcc1 hss1 hln1 hzz1
  obtain ⟨i, rfl, hi9, hl, S1, L1, vr1, kd1, hr1, hg1, hK1, hCC1, hLL1, hvv1, hnn1, hPP1, hBB1, hcc1, hss1, hln1, hzz1⟩ := hI
  have hf41 := hK1.atC hfc1 (by decide)
  have hf42 := hK1.atC hfc2 (by decide)
  have hA41 := hA1.uK hK1
  have hA42 := hA2.uK hK1
  obtain ⟨md1, fq1, hq41, -⟩ := id hA41
  obtain ⟨md2, fq2, hq42, -⟩ := id hA42
  refine lv_iload hx hb dX1_uniteRows_187 (lv_at hl 0 rfl) ?_
  refine lv_bipush (v := 10) hx hb dX1_uniteRows_189 (by decide) ?_
  refine lv_icmp_ge (tgt := 244) hx hb dX1_uniteRows_191 (by decide) (fun c_25 => ?_) (fun c_25 => ?_)
  · skip
    obtain rfl : i = 10 := by have := (nI_leI (a := 10) (b := i) (by omega) (by omega)).1 c_25; omega
    have hr2 : r = .inr S1 := (Option.some.inj hr1).symm
    exact mm_retvD hx hb hr hlk hM hS ⟨rfl, S1, L1, vr1, hr2, hex.uK.trans hK1, hCC1, hLL1, hvv1, hnn1, by (try dsimp only); omega, by (try dsimp only); omega, hln1, hPP1, hBB1, hzz1⟩ dX1_uniteRows_244 (by (try dsimp only); omega) (by (try dsimp only); omega)
  · skip
    have hi : i < 10 := (nI_ltI (b := 10) (by omega) (by omega)).1 (Int32.not_le.1 c_25)
    have hk10 : 10 - i = (9 - i) + 1 := by omega
    have hk9 : 9 - (9 - i) = i := by omega
    have hk8 : 10 - (i + 1) = 9 - i := by omega
    rw [hk10] at hr1
    simp only [tLabs, hk9] at hr1
    refine lv_aload_n hx hb dX1_uniteRows_194 rfl (lv_at hl 2 rfl) ?_
    refine va_getN (D := Z.1) (ci := 17) (v := .int B1) (C := RX22) (T := TX22) (N := 3) hx hb hts in_X22 hown hE.1 (hM.at hf41) 0 rfl mm_cX22 2 (by decide) (va_Nw.use rfl (hE.2.1 _ q1222 rfl)) (fun _ h9 => h9) rfl dX1_uniteRows_195 ?_
    refine lv_aload_n hx hb dX1_uniteRows_198 rfl (lv_at hl 1 rfl) ?_
    refine va_getN (D := Z.1) (ci := 17) (v := .int B2) (C := RX22) (T := TX22) (N := 3) hx hb hts in_X22 hown hE.1 (hM.at hf42) 0 rfl mm_cX22 2 (by decide) (va_Nw.use rfl (hE.2.1 _ q1222 rfl)) (fun _ h9 => h9) rfl dX1_uniteRows_199 ?_
    refine lv_iand hx hb dX1_uniteRows_202 ?_
    refine lv_iload hx hb dX1_uniteRows_203 (lv_at hl 0 rfl) ?_
    refine mm_callS (As := [.int (B1 &&& B2), .int (nI i)]) (rest := []) ⟨hx, hb, hml, hown, hts⟩ hE hST hA (c_X1_has l Z (st9 := B1 &&& B2) (k := i)) (va_cwS 2 hts (lw_S q1253 q1162 q50 q1163) rfl rfl rfl (by decide +kernel) ⟨(by (try dsimp only); omega), (by (try dsimp only); omega)⟩) hM hS rfl hl.1 (Nat.le_of_ble_eq_true rfl) dX1_uniteRows_205 rfl ⟨(by (try dsimp only); omega), (by (try dsimp only); omega)⟩ (fun _ _ _ _ _ _ h9 => h9.elim) (fun v_26 M_27 H locs hp_28 hM hS => ?_)
    obtain ⟨rfl, eM_27⟩ := hp_28
    rw [eM_27] at hM
    refine lv_if_eq (tgt := 238) hx hb dX1_uniteRows_208 (by decide) (fun c_29 => ?_) (fun c_29 => ?_)
    · skip
      have hh : uhs (B1 &&& B2) i = false := (mm_b_0 _).1 c_29
      rw [hh, if_neg (by decide)] at hr1
      obtain ⟨x_30, ex_30⟩ : ∃ z : Int32, z = (nI i) + 1 := ⟨_, rfl⟩
      refine lv_iinc (v := x_30) (lv' := [(6, .int x_30), (3, .ref q_11), (2, .ref q_2)]) hx hb dX1_uniteRows_238 hl (k := 0) rfl (by rw [ex_30]; rfl) (by decide) rfl (fun ls hl => ?_)
      rw [show x_30 = nI (i + 1) from by rw [ex_30]; exact nI_1 i] at hl
      refine lv_goto (tgt := 187) hx hb dX1_uniteRows_241 (by decide) ?_
      refine ihl (10 - (i + 1)) (by omega) _ _ _ _ _ _ ⟨i + 1, rfl, hi, lv_sub hl [0, 1, 2] rfl, S1, L1, vr1, kd1, by rw [hk8]; exact hr1, hg1, hK1, hCC1, hLL1, hvv1, hnn1, hPP1, hBB1, hcc1, hss1, hln1, hzz1⟩ hM hS
    · skip
      have hh : uhs (B1 &&& B2) i = true := by cases h8 : uhs (B1 &&& B2) i with | true => rfl | false => exact absurd ((mm_b_0 _).2 h8) c_29
      rw [if_pos hh] at hr1
      rw [uhs_and hi, Bool.and_eq_true] at hh
      have hb1 := hh.1
      rw [hB1 i hi] at hb1
      rcases hX1.2 i hi with ⟨h9, -⟩ | ⟨x1, ad1, hfx1, hxs1, hty1⟩
      · skip
        rw [h9] at hb1; simp at hb1
      · skip
        have hb2 := hh.2
        rw [hB2 i hi] at hb2
        rcases hX2.2 i hi with ⟨h9, -⟩ | ⟨x2, ad2, hfx2, hxs2, hty2⟩
        · skip
          rw [h9] at hb2; simp at hb2
        · skip
          rw [hfx1, hfx2] at hr1
          dsimp only at hr1
          have htM1 : tp Z M4 L1 vr1 S1.1 x1 false ad1 := tp.mono hK1 hLL1 hvv1 hnn1 _ _ _ hty1
          have htM2 : tp Z M4 L1 vr1 S1.1 x2 false ad2 := tp.mono hK1 hLL1 hvv1 hnn1 _ _ _ hty2
          refine lv_aload_n hx hb dX1_uniteRows_211 rfl (lv_at hl 2 rfl) ?_
          refine va_getN (D := Z.1) (ci := 17) (v := .ref t1) (C := RX22) (T := TX22) (N := 3) hx hb hts in_X22 hown hE.1 (hM.at hf41) 0 rfl mm_cX22 0 (by decide) (va_Nw.use rfl (hE.2.1 _ q1214 rfl)) (fun _ h9 => h9) rfl dX1_uniteRows_212 ?_
          refine lv_iload hx hb dX1_uniteRows_215 (lv_at hl 0 rfl) ?_
          refine mm_callV (As := [.int (nI i)]) (rest := []) ⟨hx, hb, hml, hown, hts⟩ hE hST hA (c_J2_get l Z (i := i) hA41 (by rw [hX1.1]; exact hi)) (cwV 1 hts (lw_V q499 q500 q501 q53 q502) rfl rfl rfl (by decide +kernel) ⟨(by (try dsimp only); omega), (by (try dsimp only); omega)⟩) hM hS mm_cJ2 hq41 rfl hl.1 (Nat.le_of_ble_eq_true rfl) dX1_uniteRows_217 rfl ⟨(by (try dsimp only); omega), (by (try dsimp only); omega)⟩ (fun _ _ _ _ _ _ h9 => h9.elim) (fun v_30 M_31 H locs hp_32 hM hS => ?_)
          obtain ⟨⟨r9, hr9', rfl⟩, eM_31⟩ := hp_32
          rw [eM_31] at hM
          obtain rfl : r9 = some ad1 := Option.some.inj (hr9'.symm.trans hxs1)
          refine W.eq (g2 := F0 m 220 ls [.ref ad1]) rfl ?_
          refine mm_cutR (b := ad1) (pc2 := 223) (ls := ls) (rest := []) (M := M4) (fun kk9 => ?_) (fun H locs hM hS => ?_) hM hS
          · skip
            obtain ⟨sm9, hq9⟩ : ∃ sm9, ct_at M4 ad1 sm9 := ⟨_, (htM1).ct⟩
            rcases hq9 with ⟨lv9, lk9, hq9⟩ | ⟨f9, t9, b9, r9, hq9⟩ | ⟨i9, w9, b9, r9, hq9⟩ | ⟨rfl, hq9⟩
            · skip
              refine va_castY (C := RX11) hx hb hown (hts _ q1254) (hE.2.1 _ q2869 rfl) (mm_recv hE hM mm_cX11 hq9) dX1_uniteRows_220 ?_
              exact kk9 _ _ hM hS
            · skip
              refine va_castY (C := RX12) hx hb hown (hts _ q1254) (hE.2.1 _ q2867 rfl) (mm_recv hE hM mm_cX12 hq9) dX1_uniteRows_220 ?_
              exact kk9 _ _ hM hS
            · skip
              refine va_castY (C := RX8) hx hb hown (hts _ q1254) (hE.2.1 _ q2866 rfl) (mm_recv hE hM mm_cX8 hq9) dX1_uniteRows_220 ?_
              exact kk9 _ _ hM hS
            · skip
              refine va_castY (C := "RowenTongue$Numbers") hx hb hown (hts _ q1254) (hE.2.1 _ q2868 rfl) (mm_recv hE hM mm_cE1 hq9) dX1_uniteRows_220 ?_
              exact kk9 _ _ hM hS
          refine lv_aload_n hx hb dX1_uniteRows_223 rfl (lv_at hl 1 rfl) ?_
          refine va_getN (D := Z.1) (ci := 17) (v := .ref t2) (C := RX22) (T := TX22) (N := 3) hx hb hts in_X22 hown hE.1 (hM.at hf42) 0 rfl mm_cX22 0 (by decide) (va_Nw.use rfl (hE.2.1 _ q1214 rfl)) (fun _ h9 => h9) rfl dX1_uniteRows_224 ?_
          refine lv_iload hx hb dX1_uniteRows_227 (lv_at hl 0 rfl) ?_
          refine mm_callV (As := [.int (nI i)]) (rest := [.ref ad1]) ⟨hx, hb, hml, hown, hts⟩ hE hST hA (c_J2_get l Z (i := i) hA42 (by rw [hX2.1]; exact hi)) (cwV 1 hts (lw_V q499 q500 q501 q53 q502) rfl rfl rfl (by decide +kernel) ⟨(by (try dsimp only); omega), (by (try dsimp only); omega)⟩) hM hS mm_cJ2 hq42 rfl hl.1 (Nat.le_of_ble_eq_true rfl) dX1_uniteRows_229 rfl ⟨(by (try dsimp only); omega), (by (try dsimp only); omega)⟩ (fun _ _ _ _ _ _ h9 => h9.elim) (fun v_33 M_34 H locs hp_35 hM hS => ?_)
          obtain ⟨⟨r9, hr9', rfl⟩, eM_34⟩ := hp_35
          rw [eM_34] at hM
          obtain rfl : r9 = some ad2 := Option.some.inj (hr9'.symm.trans hxs2)
          refine W.eq (g2 := F0 m 232 ls [.ref ad2, .ref ad1]) rfl ?_
          refine mm_cutR (b := ad2) (pc2 := 235) (ls := ls) (rest := [.ref ad1]) (M := M4) (fun kk9 => ?_) (fun H locs hM hS => ?_) hM hS
          · skip
            obtain ⟨sm9, hq9⟩ : ∃ sm9, ct_at M4 ad2 sm9 := ⟨_, (htM2).ct⟩
            rcases hq9 with ⟨lv9, lk9, hq9⟩ | ⟨f9, t9, b9, r9, hq9⟩ | ⟨i9, w9, b9, r9, hq9⟩ | ⟨rfl, hq9⟩
            · skip
              refine va_castY (C := RX11) hx hb hown (hts _ q1254) (hE.2.1 _ q2869 rfl) (mm_recv hE hM mm_cX11 hq9) dX1_uniteRows_232 ?_
              exact kk9 _ _ hM hS
            · skip
              refine va_castY (C := RX12) hx hb hown (hts _ q1254) (hE.2.1 _ q2867 rfl) (mm_recv hE hM mm_cX12 hq9) dX1_uniteRows_232 ?_
              exact kk9 _ _ hM hS
            · skip
              refine va_castY (C := RX8) hx hb hown (hts _ q1254) (hE.2.1 _ q2866 rfl) (mm_recv hE hM mm_cX8 hq9) dX1_uniteRows_232 ?_
              exact kk9 _ _ hM hS
            · skip
              refine va_castY (C := "RowenTongue$Numbers") hx hb hown (hts _ q1254) (hE.2.1 _ q2868 rfl) (mm_recv hE hM mm_cE1 hq9) dX1_uniteRows_232 ?_
              exact kk9 _ _ hM hS
          have hcg : tU n S1 (uap S.2.1 x1) (uap S.2.1 x2) = tU n S1 x1 x2 := tU_cg (hg1.2.2 x1) (hg1.2.2 x2)
          rw [hcg] at hr1
          have hu1 : uget (uap S.2.1 r1) i = some (uap S.2.1 x1) := by rw [← hU1]; exact hfx1
          have hu2 : uget (uap S.2.1 r2) i = some (uap S.2.1 x2) := by rw [← hU2]; exact hfx2
          have hwx1 : uwf (uG S1 kd1) false (uap S1.2.1 x1) := hg1.wf (hw1.row.2.2.1 i _ hu1).2.1
          have hwx2 : uwf (uG S1 kd1) false (uap S1.2.1 x2) := hg1.wf (hw2.row.2.2.1 i _ hu2).2.1
          have hdx : uDeep Z M4 L1 vr1 S1 x1 (d + 1) := (hdp.to (y := x1) (k := 1) (fun s => (uget_low hu1).1)).mono (hex.uK.trans hK1) hLL1 hvv1 hnn1 hg1.2.2
          have hB91 := hB9.goR hC hCC1 (hex.uK.trans hK1) hLL1 hvv1 hnn1 hg1.2.2 hBB1; have hdl := hdx.le hCC1 hB91
          cases hru : tU n S1 x1 x2 with
          | none => rw [hru] at hr1; cases hr1
          | some ru =>
            rw [hru] at hr1
            refine mm_callSD (As := [.ref ad1, .ref ad2]) (rest := []) ⟨hx, hb, hml, hown, hts⟩ hE hST hA (ih M4 L1 vr1 S1 kd1 x1 x2 ad1 ad2 ru Hh Lm (d + 1) (D - 1) b (h02.uK hK1) hCC1 hg1.2.1 htM1 htM2 hwx1 hwx2 hru hB91 (by omega) (by omega) (by omega) hdx) (va_cwS 2 hts (lw_S q1188 q1056 q50 q1057) rfl rfl rfl (by decide +kernel) ⟨(by (try dsimp only); omega), (by (try dsimp only); omega)⟩) hM hS rfl hl.1 (Nat.le_of_ble_eq_true rfl) dX1_uniteRows_235 rfl ⟨(by (try dsimp only); omega), (by (try dsimp only); omega)⟩ (fun E ce q M9 H1 locs1 hp9 hM9 hS9 hce hcv hcl => by obtain ⟨er9, he9, hx9⟩ := hp9; exact mm_outxD htab hlk hM9 hS9 hce hcv hcl ⟨er9, by rw [he9] at hr1; exact (Option.some.inj hr1).symm, hx9.afterK (hex.uK.trans hK1)⟩ (by (try dsimp only); omega) (by (try dsimp only); omega)) (fun v_36 M_37 n_39 k_40 H locs hp_38 hM hS => ?_)
            obtain ⟨rfl, S2, L2, vr2, hrS, hK5, hC5, hL5, hv5, hn5, hc5, hs5, hl5, hP5, hB5, hz5⟩ := hp_38
            subst hrS
            obtain ⟨kd2, hg2, -⟩ := tU_good n S1 kd1 x1 x2 S2 hg1.2.1 hwx1 hwx2 hru
            have hup : ∀ (t : ev) (s : Nat → ev), uap s (uap S2.2.1 t) = uap (fun v => uap s (S2.2.1 v)) (uap S1.2.1 t) := fun t s => by rw [← uap_ap, hg2.2.2 t]
            have hup0 : ∀ (t : ev) (s : Nat → ev), uap s (uap S2.2.1 t) = uap (fun v => uap s (S2.2.1 v)) (uap S.2.1 t) := fun t s => by rw [← uap_ap, (hg1.trans hg2).2.2 t]
            have hz6 : ∀ z, M z ≠ none → unext M z = none → unext M_37 z ≠ none → uVar M z ∨ ∃ t, tp Z M_37 L2 vr2 S2.1 t false z ∧ ∀ s, SizeOf.sizeOf (uap s (uap S2.2.1 t)) ≤ SizeOf.sizeOf (uap s (uap S2.2.1 r1)) := by
              intro z h7 h8 h9
              by_cases h6 : unext M4 z = none
              · obtain ⟨e3, h3⟩ : ∃ e3, M4 z = some e3 := by
                  cases h4 : M z with
                  | none => exact absurd h4 h7
                  | some e4 => exact (hex.uK.trans hK1).has h4
                rcases hz5 z (by rw [h3]; simp) h6 h9 with h5 | ⟨t, ht, hs⟩
                · exact Or.inl (h5.back (hex.uK.trans hK1) h7)
                · refine Or.inr ⟨t, ht, fun s => Nat.le_trans (hs s) ?_⟩
                  rw [hup0 x1 s, hup0 r1 s]; exact Nat.le_of_lt (uget_low hu1).2
              · rcases hzz1 z h7 h8 h6 with h5 | ⟨t, ht, hs⟩
                · exact Or.inl h5
                · refine Or.inr ⟨t, tp.mono hK5 hL5 hv5 hn5 _ _ _ ht, fun s => ?_⟩
                  rw [hup t s, hup r1 s]; exact hs _
            obtain ⟨x_41, ex_41⟩ : ∃ z : Int32, z = (nI i) + 1 := ⟨_, rfl⟩
            refine lv_iinc (v := x_41) (lv' := [(6, .int x_41), (3, .ref q_11), (2, .ref q_2)]) hx hb dX1_uniteRows_238 hl (k := 0) rfl (by rw [ex_41]; rfl) (by decide) rfl (fun ls hl => ?_)
            rw [show x_41 = nI (i + 1) from by rw [ex_41]; exact nI_1 i] at hl
            refine lv_goto (tgt := 187) hx hb dX1_uniteRows_241 (by decide) ?_
            refine ihl (10 - (i + 1)) (by omega) _ _ _ _ _ _ ⟨i + 1, rfl, hi, lv_sub hl [0, 1, 2] rfl, S2, L2, vr2, kd2, by rw [hk8]; exact hr1, hg1.trans hg2, hK1.trans hK5, hC5, fun a h => hL5 a (hLL1 a h), fun v h => (hv5 v (Nat.lt_of_lt_of_le h hnn1)).trans (hvv1 v h), Nat.le_trans hnn1 hn5, Nat.le_trans hP5 hPP1, (hBB1.trans hK5 hB5), by (try dsimp only); omega, by (try dsimp only); omega, by omega, hz6⟩ hM hS
