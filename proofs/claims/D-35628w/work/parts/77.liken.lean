/-! ===== Walk.through: Likening ===== -/
set_option maxRecDepth 100000
theorem ts_like_or {S : ts} {X Y T : ev} (h : ∀ u, uoc u T = (uoc u X || uoc u Y)) : ts_like (ts_like S X) Y = ts_like S T := by
  have e : (fun u => (S.2.2.1 u || uoc u X) || uoc u Y) = fun u => S.2.2.1 u || uoc u T := by
    funext u
    rw [h u, Bool.or_assoc]
  exact congrArg (fun f => ((S.1, S.2.1, f, S.2.2.2.1, S.2.2.2.2) : ts)) e
theorem ts_like_none {S : ts} {T : ev} (h : ∀ u, uoc u T = false) : ts_like S T = S := by
  have e : (fun u => S.2.2.1 u || uoc u T) = S.2.2.1 := by
    funext u
    rw [h u, Bool.or_false]
  exact congrArg (fun f => ((S.1, S.2.1, f, S.2.2.2.1, S.2.2.2.2) : ts)) e
theorem ts_like_cg {S : ts} {T T' : ev} (h : ∀ u, uoc u T = uoc u T') : ts_like S T = ts_like S T' := by
  have e : (fun u => S.2.2.1 u || uoc u T) = fun u => S.2.2.1 u || uoc u T' := by
    funext u
    rw [h u]
  exact congrArg (fun f => ((S.1, S.2.1, f, S.2.2.2.1, S.2.2.2.2) : ts)) e

set_option maxHeartbeats 4000000 in
set_option maxRecDepth 100000 in
theorem d_X21_at (l : Launch) (Z : mm_G) {M : mm_M} {a u : Nat} {bd : Option Nat} {lu : Int32} {lk : Bool} (hu9 : M u = some (co_E bd lu lk)) : mm_D l Z yX21_at (ws_ yX21_at cX21_at 2 none) { frames := 0, cells := 0, slots := 0, locals := 0 } [.ref a, .ref u] M (fun v M' n9 k9 => v = none ∧ n9 = 0 ∧ k9 = 0 ∧ M' = mm_U M u (co_E bd lu true)) mm_nx := by
  refine mm_ofWD (cc := cX21_at) (maxL := 2) (ret := none) (by decide) rfl (Nat.le_of_ble_eq_true rfl) ?_
  intro p e s m below meth c A ls hx hb hr hlk hml hown hmn hts htab hE hST hA hM hS hl
  replace hl : lv_has ls 2 [(0, .ref a), (1, .ref u)] := hl
  refine lv_aload_n hx hb dX21_at_0 rfl (lv_at hl 1 rfl) ?_
  refine lv_iconst (v := 1) hx hb dX21_at_1 (by decide) ?_
  refine mm_putN (D := Z.1) (ci := 9) (v := .int 1) (ty := .boolean) (C := RX11) (T := TX11) (N := 3) hx hb hts in_X11 tyX11 tyX11_ok nmX11 hown hE.1 hM hS hu9 mm_cX11 2 (by decide) (va_Nw.use rfl (hE.2.1 _ q814 rfl)) (fun _ h9 => h9) rfl (by decide +kernel) rfl rfl (Nat.le_of_ble_eq_true rfl) dX21_at_2 (fun H locs hM hS => ?_)
  have hM : mm_P Z.1 mm_cl A (mm_U M u (.inr (9, [va_rf bd, .int lu, .int 1]))) H := hM
  have hc_1 : (mm_U M u (.inr (9, [va_rf bd, .int lu, .int 1]))) u = some (.inr (9, [va_rf bd, .int lu, .int 1])) := mm_U_eq
  obtain ⟨M_2, eM_2⟩ : ∃ z, z = mm_U M u (.inr (9, [va_rf bd, .int lu, .int 1])) := ⟨_, rfl⟩
  rw [← eM_2] at hM hc_1
  exact mm_retvD hx hb hr hlk hM hS ⟨rfl, rfl, rfl, eM_2⟩ dX21_at_5 (Nat.le_of_ble_eq_true rfl) (Nat.le_of_ble_eq_true rfl)
set_option maxHeartbeats 4000000 in
set_option maxRecDepth 100000 in
theorem d_X21_at_3 (l : Launch) (Z : mm_G) {M : mm_M} {a u : Nat} {bd : Option Nat} {lu : Int32} {lk : Bool} {lc : Int32} (hu9 : M u = some (cr_E bd lu lk lc)) : mm_D l Z yX21_at_3 (ws_ yX21_at_3 cX21_at_3 2 none) { frames := 0, cells := 0, slots := 0, locals := 0 } [.ref a, .ref u] M (fun v M' n9 k9 => v = none ∧ n9 = 0 ∧ k9 = 0 ∧ M' = mm_U M u (cr_E bd lu true lc)) mm_nx := by
  refine mm_ofWD (cc := cX21_at_3) (maxL := 2) (ret := none) (by decide) rfl (Nat.le_of_ble_eq_true rfl) ?_
  intro p e s m below meth c A ls hx hb hr hlk hml hown hmn hts htab hE hST hA hM hS hl
  replace hl : lv_has ls 2 [(0, .ref a), (1, .ref u)] := hl
  refine lv_aload_n hx hb dX21_at_3_0 rfl (lv_at hl 1 rfl) ?_
  refine lv_iconst (v := 1) hx hb dX21_at_3_1 (by decide) ?_
  refine mm_putN (D := Z.1) (ci := 12) (v := .int 1) (ty := .boolean) (C := RX15) (T := TX15) (N := 4) hx hb hts in_X15 tyX15 tyX15_ok nmX15 hown hE.1 hM hS hu9 mm_cX15 2 (by decide) (va_Nw.use rfl (hE.2.1 _ q928 rfl)) (fun _ h9 => h9) rfl (by decide +kernel) rfl rfl (Nat.le_of_ble_eq_true rfl) dX21_at_3_2 (fun H locs hM hS => ?_)
  have hM : mm_P Z.1 mm_cl A (mm_U M u (.inr (12, [va_rf bd, .int lu, .int 1, .int lc]))) H := hM
  have hc_1 : (mm_U M u (.inr (12, [va_rf bd, .int lu, .int 1, .int lc]))) u = some (.inr (12, [va_rf bd, .int lu, .int 1, .int lc])) := mm_U_eq
  obtain ⟨M_2, eM_2⟩ : ∃ z, z = mm_U M u (.inr (12, [va_rf bd, .int lu, .int 1, .int lc])) := ⟨_, rfl⟩
  rw [← eM_2] at hM hc_1
  exact mm_retvD hx hb hr hlk hM hS ⟨rfl, rfl, rfl, eM_2⟩ dX21_at_3_5 (Nat.le_of_ble_eq_true rfl) (Nat.le_of_ble_eq_true rfl)
set_option maxHeartbeats 4000000 in
set_option maxRecDepth 100000 in
theorem c_through_L (l : Launch) (Z : mm_G) (htr : l.stackTraces = false) (L : List Nat) (vr : Nat → Nat) (wk : Nat) (N : Nat) : (∀ (T : ev) (t : ev) (a : Nat) (M : mm_M) (S : ts), SizeOf.sizeOf T < N → uap S.2.1 t = T → M wk = some (.inr (50, [])) → uCI Z M L vr S → tp Z M L vr S.1 t false a → mm_D l Z yX19_through (ws_ yX19_through cX19_through 6 none) (tw_r (uh T) L.length) [.ref a, .ref wk] M (fun v9 M' n9 k9 => v9 = none ∧ n9 = 0 ∧ k9 = 0 ∧ uhf T = false ∧ uL M M' ∧ uCI Z M' L vr (ts_like S T)) (fun E q M' => uhf T = true ∧ uX M 5 E q M')) ∧
    (∀ (T : ev) (t : ev) (a : Nat) (M : mm_M) (S : ts), SizeOf.sizeOf T < N → uap S.2.1 t = T → M wk = some (.inr (50, [])) → uCI Z M L vr S → tp Z M L vr S.1 t true a → mm_D l Z yX19_through_2 (ws_ yX19_through_2 cX19_through_2 4 none) (tw_r (uh T) L.length) [.ref a, .ref wk] M (fun v9 M' n9 k9 => v9 = none ∧ n9 = 0 ∧ k9 = 0 ∧ uhf T = false ∧ uL M M' ∧ uCI Z M' L vr (ts_like S T)) (fun E q M' => uhf T = true ∧ uX M 5 E q M')) := by
  induction N with
  | zero => exact ⟨fun _ _ _ _ _ h => absurd h (Nat.not_lt_zero _), fun _ _ _ _ _ h => absurd h (Nat.not_lt_zero _)⟩
  | succ N ih =>
  obtain ⟨ihT, ihR⟩ := ih
  refine ⟨fun T t a M S hz hT hwk hC htp => ?_, fun T t a M S hz hT hwk hC htp => ?_⟩
  · skip
    refine mm_ofWD (cc := cX19_through) (maxL := 6) (ret := none) (by decide) rfl (Nat.le_of_ble_eq_true rfl) ?_
    intro p e s m below meth c A ls hx hb hr hlk hml hown hmn hts htab hE hST hA hM hS hl
    replace hl : lv_has ls 6 [(0, .ref a), (1, .ref wk)] := hl
    obtain ⟨d1, b1, t1, hd1, hn1, htb, he1, hcs⟩ := hC.nowT htp
    refine lv_aload_n hx hb dX19_through_0 rfl (lv_at hl 0 rfl) ?_
    refine mm_cutR (b := b1) (pc2 := 4) (ls := ls) (rest := []) (M := M) (fun kk9 => ?_) (fun H locs hM hS => ?_) hM hS
    · skip
      have hw9 := c_now l Z hn1
      obtain ⟨sm9, hq9⟩ := hn1.at
      rcases hq9 with ⟨lv9, lk9, hq9⟩ | ⟨f9, t9, b9, r9, hq9⟩ | ⟨i9, w9, b9, r9, hq9⟩ | ⟨rfl, hq9⟩
      · skip
        refine mm_callU (As := []) (rest := []) ⟨hx, hb, hml, hown, hts⟩ hE hST hA (hw9.1 _ _ _ hq9) (va_cwO (x := ⟨"RowenTongue$Type", "now", "()LRowenTongue$Type;"⟩) (C := RX11) (owner := "RowenTongue$Type") 0 hts (lw_app (lw_in _ [1082, 707, 706, 720, 715, 78] (by decide +kernel) (by decide +kernel)) (lw_meth q716)) rfl rfl rfl q721 (by decide +kernel) ⟨(by (try dsimp only); omega), (by (try dsimp only); omega)⟩) hM hS mm_cX11 hq9 rfl hl.1 (Nat.le_of_ble_eq_true rfl) dX19_through_1 rfl ⟨(Nat.le_of_ble_eq_true rfl), (Nat.le_of_ble_eq_true rfl)⟩ (fun _ _ _ _ _ _ h9 => h9.elim) (fun v_1 M_2 H locs hp_3 hM hS => ?_)
        obtain ⟨rfl, eM_2⟩ := hp_3
        rw [eM_2] at hM
        exact kk9 _ _ hM hS
      · skip
        refine mm_callU (As := []) (rest := []) ⟨hx, hb, hml, hown, hts⟩ hE hST hA (hw9.2.1 _ _ _ _ _ hq9) (va_cwO (x := ⟨"RowenTongue$Type", "now", "()LRowenTongue$Type;"⟩) (C := RX12) (owner := "RowenTongue$Type") 0 hts (lw_app (lw_in _ [1082, 707, 706, 718, 712, 79] (by decide +kernel) (by decide +kernel)) (lw_meth q713)) rfl rfl rfl q721 (by decide +kernel) ⟨(by (try dsimp only); omega), (by (try dsimp only); omega)⟩) hM hS mm_cX12 hq9 rfl hl.1 (Nat.le_of_ble_eq_true rfl) dX19_through_1 rfl ⟨(Nat.le_of_ble_eq_true rfl), (Nat.le_of_ble_eq_true rfl)⟩ (fun _ _ _ _ _ _ h9 => h9.elim) (fun v_1 M_2 H locs hp_3 hM hS => ?_)
        obtain ⟨rfl, eM_2⟩ := hp_3
        rw [eM_2] at hM
        exact kk9 _ _ hM hS
      · skip
        refine mm_callU (As := []) (rest := []) ⟨hx, hb, hml, hown, hts⟩ hE hST hA (hw9.2.2.1 _ _ _ _ _ hq9) (va_cwO (x := ⟨"RowenTongue$Type", "now", "()LRowenTongue$Type;"⟩) (C := RX8) (owner := "RowenTongue$Type") 0 hts (lw_app (lw_in _ [1082, 707, 706, 708, 709, 74] (by decide +kernel) (by decide +kernel)) (lw_meth q710)) rfl rfl rfl q721 (by decide +kernel) ⟨(by (try dsimp only); omega), (by (try dsimp only); omega)⟩) hM hS mm_cX8 hq9 rfl hl.1 (Nat.le_of_ble_eq_true rfl) dX19_through_1 rfl ⟨(Nat.le_of_ble_eq_true rfl), (Nat.le_of_ble_eq_true rfl)⟩ (fun _ _ _ _ _ _ h9 => h9.elim) (fun v_1 M_2 H locs hp_3 hM hS => ?_)
        obtain ⟨rfl, eM_2⟩ := hp_3
        rw [eM_2] at hM
        exact kk9 _ _ hM hS
      · skip
        refine mm_callU (As := []) (rest := []) ⟨hx, hb, hml, hown, hts⟩ hE hST hA (hw9.2.2.2 hq9) (va_cwU (x := ⟨"RowenTongue$Type", "now", "()LRowenTongue$Type;"⟩) (C := "RowenTongue$Numbers") (owner := "RowenTongue$Type") 0 hts (lw_app (lw_in _ [1082, 707, 719, 706, 73] (by decide +kernel) (by decide +kernel)) (lw_meth q721)) rfl rfl rfl rfl (by decide +kernel) ⟨(by (try dsimp only); omega), (by (try dsimp only); omega)⟩) hM hS mm_cE1 hq9 rfl hl.1 (Nat.le_of_ble_eq_true rfl) dX19_through_1 rfl ⟨(Nat.le_of_ble_eq_true rfl), (Nat.le_of_ble_eq_true rfl)⟩ (fun _ _ _ _ _ _ h9 => h9.elim) (fun v_1 M_2 H locs hp_3 hM hS => ?_)
        obtain ⟨rfl, eM_2⟩ := hp_3
        rw [eM_2] at hM
        exact kk9 _ _ hM hS
    refine lv_astore_n hx hb dX19_through_4 rfl hl (by decide) rfl (fun ls hl => ?_)
    replace hl : lv_has ls 6 [(2, .ref b1), (0, .ref a), (1, .ref wk)] := hl
    refine lv_aload_n hx hb dX19_through_5 rfl (lv_at hl 0 rfl) ?_
    rcases hcs with ⟨eT, hb0, hbN⟩ | ⟨u, hu, eT, -, hbu, hbL, hbO⟩ | ⟨x1, y1, f1, g1, bq1, rn1, eT, hbL, hbF, hf1, hg1⟩ | ⟨r1, iv1, w1, bq1, rn1, eT, hbL, hbB, hw1⟩
    · skip
      rw [hT] at eT
      refine va_instNo (C := "RowenTongue$Numbers") hx hb hown (hts _ q1083) (hE.2.2.2.1 _ _ (by decide +kernel)) (mm_recv hE hM mm_cE1 hbN) dX19_through_6 ?_
      refine lv_if_eq (tgt := 27) hx hb dX19_through_9 (by decide) (fun _ => ?_) (fun h9 => absurd (by decide) h9)
      refine lv_aload_n hx hb dX19_through_27 rfl (lv_at hl 0 rfl) ?_
      refine va_instNo (C := "RowenTongue$Numbers") hx hb hown (hts _ q1127) (hE.2.2.2.1 _ _ (by decide +kernel)) (mm_recv hE hM mm_cE1 hbN) dX19_through_28 ?_
      refine lv_if_eq (tgt := 69) hx hb dX19_through_31 (by decide) (fun _ => ?_) (fun h9 => absurd (by decide) h9)
      refine lv_aload_n hx hb dX19_through_69 rfl (lv_at hl 0 rfl) ?_
      refine va_instNo (C := "RowenTongue$Numbers") hx hb hown (hts _ q1145) (hE.2.2.2.1 _ _ (by decide +kernel)) (mm_recv hE hM mm_cE1 hbN) dX19_through_70 ?_
      refine lv_if_eq (tgt := 91) hx hb dX19_through_73 (by decide) (fun _ => ?_) (fun h9 => absurd (by decide) h9)
      exact mm_retvD hx hb hr hlk hM hS ⟨rfl, rfl, rfl, by rw [eT]; rfl, uL.rf _, by rw [eT, ts_like_none (fun _ => rfl)]; exact hC⟩ dX19_through_91 (by (try dsimp only); omega) (by (try dsimp only); omega)
    · skip
      rw [hT] at eT
      subst hbu
      refine va_instS hx hb hown (hts _ q1083) (hE.1.1 9 _ mm_cX11).2 (mm_recv hE hM mm_cX11 hbO) dX19_through_6 ?_
      refine lv_if_eq (tgt := 27) hx hb dX19_through_9 (by decide) (fun h9 => absurd h9 (by decide)) (fun _ => ?_)
      refine lv_aload_n hx hb dX19_through_12 rfl (lv_at hl 0 rfl) ?_
      refine va_castS hx hb hown (hts _ q1083) (hE.1.1 9 _ mm_cX11).2 (mm_recv hE hM mm_cX11 hbO) dX19_through_13 ?_
      refine lv_astore_n hx hb dX19_through_16 rfl hl (by decide) rfl (fun ls hl => ?_)
      replace hl : lv_has ls 6 [(3, .ref (vr u)), (2, .ref (vr u)), (0, .ref a), (1, .ref wk)] := hl
      refine lv_aload_n hx hb dX19_through_17 rfl (lv_at hl 3 rfl) ?_
      refine lv_aload_n hx hb dX19_through_18 rfl (lv_at hl 0 rfl) ?_
      refine mm_callFD (As := [.ref (vr u)]) (rest := []) ⟨hx, hb, hml, hown, hts⟩ hE hST hA (d_X21_at l Z hbO) (va_cwF (C := "RowenTongue$Likening") (x := ⟨"RowenTongue$Walk", "at", "(LRowenTongue$Open;)V"⟩) 1 hts (lw_app (lw_in _ [1085, 1096, 1098, 89] (by decide +kernel) (by decide +kernel)) (lw_meth q1100)) rfl rfl rfl (hE.2.2.1 _ (List.mem_of_getElem? (i := 4) rfl)) (by decide +kernel) ⟨(by (try dsimp only); omega), (by (try dsimp only); omega)⟩) hM hS mm_cE0 hwk rfl hl.1 (Nat.le_of_ble_eq_true rfl) dX19_through_19 rfl ⟨(by (try dsimp only); omega), (by (try dsimp only); omega)⟩ (fun _ _ _ _ _ _ h9 => h9.elim) (fun v_1 M_2 n_4 k_5 H locs hp_3 hM hS => ?_)
      obtain ⟨rfl, rfl, rfl, eM9⟩ := hp_3
      refine lv_goto (tgt := 91) hx hb dX19_through_24 (by decide) ?_
      exact mm_retvD hx hb hr hlk hM hS ⟨rfl, rfl, rfl, by rw [eT]; rfl, by rw [eM9]; exact uL.O hbO, by rw [eM9, eT]; exact hC.setO hu hbO rfl rfl rfl (fun w hw => ⟨rfl, by simp [ts_like, uoc, Ne.symm hw]⟩) rfl (by simp [ts_like, uoc])⟩ dX19_through_91 (by (try dsimp only); omega) (by (try dsimp only); omega)
    · skip
      rw [hT] at eT
      refine va_instNo (C := RX12) hx hb hown (hts _ q1083) (hE.2.2.2.1 _ _ (by decide +kernel)) (mm_recv hE hM mm_cX12 hbF) dX19_through_6 ?_
      refine lv_if_eq (tgt := 27) hx hb dX19_through_9 (by decide) (fun _ => ?_) (fun h9 => absurd (by decide) h9)
      refine lv_aload_n hx hb dX19_through_27 rfl (lv_at hl 0 rfl) ?_
      refine va_instS hx hb hown (hts _ q1127) (hE.1.1 10 _ mm_cX12).2 (mm_recv hE hM mm_cX12 hbF) dX19_through_28 ?_
      refine lv_if_eq (tgt := 69) hx hb dX19_through_31 (by decide) (fun h9 => absurd h9 (by decide)) (fun _ => ?_)
      refine lv_aload_n hx hb dX19_through_34 rfl (lv_at hl 0 rfl) ?_
      refine va_castS hx hb hown (hts _ q1127) (hE.1.1 10 _ mm_cX12).2 (mm_recv hE hM mm_cX12 hbF) dX19_through_35 ?_
      refine lv_astore hx hb dX19_through_38 hl (by decide) rfl (fun ls hl => ?_)
      replace hl : lv_has ls 6 [(4, .ref b1), (2, .ref b1), (0, .ref a), (1, .ref wk)] := hl
      refine lv_aload_n hx hb dX19_through_40 rfl (lv_at hl 3 rfl) ?_
      refine lv_aload hx hb dX19_through_41 (lv_at hl 0 rfl) ?_
      refine mm_callF (As := [.ref b1]) (rest := []) ⟨hx, hb, hml, hown, hts⟩ hE hST hA (c_X21_at_2 l Z htr (a := b1) (h9 := wk)) (va_cwF (C := "RowenTongue$Likening") (x := ⟨"RowenTongue$Walk", "at", "(LRowenTongue$Function;)V"⟩) 1 hts (lw_app (lw_in _ [1129, 1136, 1138, 89] (by decide +kernel) (by decide +kernel)) (lw_meth q1140)) rfl rfl rfl (hE.2.2.1 _ (List.mem_of_getElem? (i := 6) rfl)) (by decide +kernel) ⟨(by (try dsimp only); omega), (by (try dsimp only); omega)⟩) hM hS mm_cE0 hwk rfl hl.1 (Nat.le_of_ble_eq_true rfl) dX19_through_43 rfl ⟨(by (try dsimp only); omega), (by (try dsimp only); omega)⟩ (fun E ce q M9 H1 locs1 hp9 hM9 hS9 hce hcv hcl => by exact mm_outxD htab hlk hM9 hS9 hce hcv hcl ⟨by rw [eT]; rfl, uX.of hp9⟩ (by (try dsimp only); omega) (by (try dsimp only); omega)) (fun v_1 M_2 H locs hp_3 hM hS => ?_)
      exact hp_3.elim
    · skip
      rw [hT] at eT
      have hsz : SizeOf.sizeOf T = 1 + SizeOf.sizeOf (uap S.2.1 r1) + SizeOf.sizeOf iv1.toNat := by rw [eT]; rfl
      have huh : uh T = uh (uap S.2.1 r1) + 1 := by rw [eT]; rfl
      refine va_instNo (C := RX8) hx hb hown (hts _ q1083) (hE.2.2.2.1 _ _ (by decide +kernel)) (mm_recv hE hM mm_cX8 hbB) dX19_through_6 ?_
      refine lv_if_eq (tgt := 27) hx hb dX19_through_9 (by decide) (fun _ => ?_) (fun h9 => absurd (by decide) h9)
      refine lv_aload_n hx hb dX19_through_27 rfl (lv_at hl 0 rfl) ?_
      refine va_instNo (C := RX8) hx hb hown (hts _ q1127) (hE.2.2.2.1 _ _ (by decide +kernel)) (mm_recv hE hM mm_cX8 hbB) dX19_through_28 ?_
      refine lv_if_eq (tgt := 69) hx hb dX19_through_31 (by decide) (fun _ => ?_) (fun h9 => absurd (by decide) h9)
      refine lv_aload_n hx hb dX19_through_69 rfl (lv_at hl 0 rfl) ?_
      refine va_instS hx hb hown (hts _ q1145) (hE.1.1 6 _ mm_cX8).2 (mm_recv hE hM mm_cX8 hbB) dX19_through_70 ?_
      refine lv_if_eq (tgt := 91) hx hb dX19_through_73 (by decide) (fun h9 => absurd h9 (by decide)) (fun _ => ?_)
      refine lv_aload_n hx hb dX19_through_76 rfl (lv_at hl 0 rfl) ?_
      refine va_castS hx hb hown (hts _ q1145) (hE.1.1 6 _ mm_cX8).2 (mm_recv hE hM mm_cX8 hbB) dX19_through_77 ?_
      refine lv_astore hx hb dX19_through_80 hl (by decide) rfl (fun ls hl => ?_)
      replace hl : lv_has ls 6 [(5, .ref b1), (2, .ref b1), (0, .ref a), (1, .ref wk)] := hl
      refine lv_aload hx hb dX19_through_82 (lv_at hl 0 rfl) ?_
      refine va_getN (D := Z.1) (ci := 6) (v := .ref w1) (C := RX8) (T := TX8) (N := 5) hx hb hts in_X8 hown hE.1 (hM.at hbB) 0 rfl mm_cX8 1 (by decide) (va_Nw.use rfl (hE.2.1 _ q625 rfl)) (fun _ h9 => h9) rfl dX19_through_84 ?_
      refine lv_aload_n hx hb dX19_through_87 rfl (lv_at hl 3 rfl) ?_
      refine mm_callSD (As := [.ref w1, .ref wk]) (rest := []) ⟨hx, hb, hml, hown, hts⟩ hE hST hA (ihR _ _ _ _ _ (by omega) rfl hwk hC hw1) (va_cwS 2 hts (lw_S q1146 q1147 q87 q1148) rfl rfl rfl (by decide +kernel) ⟨(by (try dsimp only); omega), (by (try dsimp only); omega)⟩) hM hS rfl hl.1 (Nat.le_of_ble_eq_true rfl) dX19_through_88 rfl ⟨(by (try dsimp only); omega), (by (try dsimp only); omega)⟩ (fun E ce q M9 H1 locs1 hp9 hM9 hS9 hce hcv hcl => by exact mm_outxD htab hlk hM9 hS9 hce hcv hcl ⟨by rw [eT]; simp [uhf, hp9.1], hp9.2.after (uL.rf M)⟩ (by (try dsimp only); omega) (by (try dsimp only); omega)) (fun v_1 M_2 n_4 k_5 H locs hp_3 hM hS => ?_)
      obtain ⟨rfl, rfl, rfl, ho1, hL1, hC1⟩ := hp_3
      have hc_6 := hL1.atC hwk (by decide)
      have hc_7 := hL1.atC hbB (by decide)
      have hv_8 := (uL.rf M).trans hL1
      exact mm_retvD hx hb hr hlk hM hS ⟨rfl, rfl, rfl, by rw [eT]; simp [uhf, ho1], hL1, by rw [eT, ts_like_cg (T := .pow (uap S.2.1 r1) iv1.toNat) (T' := uap S.2.1 r1) (fun _ => rfl)]; exact hC1⟩ dX19_through_91 (by (try dsimp only); omega) (by (try dsimp only); omega)
  · skip
    refine mm_ofWD (cc := cX19_through_2) (maxL := 4) (ret := none) (by decide) rfl (Nat.le_of_ble_eq_true rfl) ?_
    intro p e s m below meth c A ls hx hb hr hlk hml hown hmn hts htab hE hST hA hM hS hl
    replace hl : lv_has ls 4 [(0, .ref a), (1, .ref wk)] := hl
    obtain ⟨d1, b1, hd1, hn1, hcs⟩ := hC.nowR' htp
    rw [hT] at hcs
    refine lv_aload_n hx hb dX19_through_2_0 rfl (lv_at hl 0 rfl) ?_
    refine mm_cutR (b := b1) (pc2 := 4) (ls := ls) (rest := []) (M := M) (fun kk9 => ?_) (fun H locs hM hS => ?_) hM hS
    · skip
      have hw9 := c_nowR l Z hn1
      obtain ⟨sm9, hq9⟩ := hn1.at
      rcases hq9 with ⟨lv9, lk9, lc9, hq9⟩ | ⟨rfl, lb9, ty9, rs9, hq9⟩ | ⟨rfl, hq9⟩
      · skip
        refine mm_callU (As := []) (rest := []) ⟨hx, hb, hml, hown, hts⟩ hE hST hA (hw9.1 _ _ _ _ hq9) (va_cwO (x := ⟨"RowenTongue$Row", "now", "()LRowenTongue$Row;"⟩) (C := RX15) (owner := "RowenTongue$Row") 0 hts (lw_app (lw_in _ [1149, 873, 872, 876, 877, 82] (by decide +kernel) (by decide +kernel)) (lw_meth q878)) rfl rfl rfl q880 (by decide +kernel) ⟨(by (try dsimp only); omega), (by (try dsimp only); omega)⟩) hM hS mm_cX15 hq9 rfl hl.1 (Nat.le_of_ble_eq_true rfl) dX19_through_2_1 rfl ⟨(Nat.le_of_ble_eq_true rfl), (Nat.le_of_ble_eq_true rfl)⟩ (fun _ _ _ _ _ _ h9 => h9.elim) (fun v_1 M_2 H locs hp_3 hM hS => ?_)
        obtain ⟨rfl, eM_2⟩ := hp_3
        rw [eM_2] at hM
        exact kk9 _ _ hM hS
      · skip
        refine mm_callU (As := []) (rest := []) ⟨hx, hb, hml, hown, hts⟩ hE hST hA (hw9.2 (Or.inl ⟨_, _, _, hq9⟩)) (va_cwU (x := ⟨"RowenTongue$Row", "now", "()LRowenTongue$Row;"⟩) (C := RX14) (owner := "RowenTongue$Row") 0 hts (lw_app (lw_in _ [1149, 873, 874, 872, 80] (by decide +kernel) (by decide +kernel)) (lw_meth q880)) rfl rfl rfl rfl (by decide +kernel) ⟨(by (try dsimp only); omega), (by (try dsimp only); omega)⟩) hM hS mm_cX14 hq9 rfl hl.1 (Nat.le_of_ble_eq_true rfl) dX19_through_2_1 rfl ⟨(Nat.le_of_ble_eq_true rfl), (Nat.le_of_ble_eq_true rfl)⟩ (fun _ _ _ _ _ _ h9 => h9.elim) (fun v_1 M_2 H locs hp_3 hM hS => ?_)
        obtain ⟨rfl, eM_2⟩ := hp_3
        rw [eM_2] at hM
        exact kk9 _ _ hM hS
      · skip
        refine mm_callU (As := []) (rest := []) ⟨hx, hb, hml, hown, hts⟩ hE hST hA (hw9.2 (Or.inr hq9)) (va_cwU (x := ⟨"RowenTongue$Row", "now", "()LRowenTongue$Row;"⟩) (C := "RowenTongue$Nothing") (owner := "RowenTongue$Row") 0 hts (lw_app (lw_in _ [1149, 873, 875, 872, 80] (by decide +kernel) (by decide +kernel)) (lw_meth q880)) rfl rfl rfl rfl (by decide +kernel) ⟨(by (try dsimp only); omega), (by (try dsimp only); omega)⟩) hM hS mm_cE2 hq9 rfl hl.1 (Nat.le_of_ble_eq_true rfl) dX19_through_2_1 rfl ⟨(Nat.le_of_ble_eq_true rfl), (Nat.le_of_ble_eq_true rfl)⟩ (fun _ _ _ _ _ _ h9 => h9.elim) (fun v_1 M_2 H locs hp_3 hM hS => ?_)
        obtain ⟨rfl, eM_2⟩ := hp_3
        rw [eM_2] at hM
        exact kk9 _ _ hM hS
    refine lv_astore_n hx hb dX19_through_2_4 rfl hl (by decide) rfl (fun ls hl => ?_)
    replace hl : lv_has ls 4 [(2, .ref b1), (0, .ref a), (1, .ref wk)] := hl
    refine mm_loopW (fun k M' ls cells slots => ∃ (T2 : ev) (b : Nat) (S2 : ts), k = SizeOf.sizeOf T2 ∧ SizeOf.sizeOf T2 ≤ SizeOf.sizeOf T ∧ uh T2 ≤ uh T ∧ lv_has ls 4 [(2, .ref b), (0, .ref a), (1, .ref wk)] ∧ (S2.1 = S.1 ∧ S2.2.1 = S.2.1) ∧ uL M M' ∧ uCI Z M' L vr S2 ∧ uRow Z M' L vr S2 T2 b ∧ ts_like S2 T2 = ts_like S T ∧ uhf T2 = uhf T ∧ cells = 0 ∧ slots = 0) (fun k M3 ls H locs cells slots ih hI hM hS => ?_) ⟨T, b1, S, rfl, Nat.le_refl _, Nat.le_refl _, lv_sub hl [0, 1, 2] rfl, ⟨rfl, rfl⟩, uL.rf _, hC, hcs, rfl, rfl, rfl, rfl⟩ hM hS
    obtain ⟨T2, b, S2, rfl, hz2, hh2, hl, ⟨hS1, hS2⟩, hL0, hC0, hrow, hlev, hocc, rfl, rfl⟩ := hI
    have hwk3 := hL0.atC hwk (by decide)
    refine lv_aload_n hx hb dX19_through_2_5 rfl (lv_at hl 0 rfl) ?_
    rcases hrow with ⟨eT, hb0, hbZ⟩ | ⟨u, hu, eT, -, hbu, hbL, hbR⟩ | ⟨x1, k1, r1, ty1, rs1, eT, hk1, hbC, hx1, hr1⟩
    · skip
      refine va_instNo (C := "RowenTongue$Nothing") hx hb hown (hts _ q1150) (hE.2.2.2.1 _ _ (by decide +kernel)) (mm_recv hE hM mm_cE2 hbZ) dX19_through_2_6 ?_
      refine lv_if_eq (tgt := 36) hx hb dX19_through_2_9 (by decide) (fun _ => ?_) (fun h9 => absurd (by decide) h9)
      refine lv_aload_n hx hb dX19_through_2_36 rfl (lv_at hl 0 rfl) ?_
      refine va_instNo (C := "RowenTongue$Nothing") hx hb hown (hts _ q1151) (hE.2.2.2.1 _ _ (by decide +kernel)) (mm_recv hE hM mm_cE2 hbZ) dX19_through_2_37 ?_
      refine lv_if_eq (tgt := 55) hx hb dX19_through_2_40 (by decide) (fun _ => ?_) (fun h9 => absurd (by decide) h9)
      exact mm_retvD hx hb hr hlk hM hS ⟨rfl, rfl, rfl, by rw [← hocc, eT]; rfl, hL0, by rw [← hlev, eT, ts_like_none (fun _ => rfl)]; exact hC0⟩ dX19_through_2_55 (by (try dsimp only); omega) (by (try dsimp only); omega)
    · skip
      subst hbu
      refine va_instNo (C := RX15) hx hb hown (hts _ q1150) (hE.2.2.2.1 _ _ (by decide +kernel)) (mm_recv hE hM mm_cX15 hbR) dX19_through_2_6 ?_
      refine lv_if_eq (tgt := 36) hx hb dX19_through_2_9 (by decide) (fun _ => ?_) (fun h9 => absurd (by decide) h9)
      refine lv_aload_n hx hb dX19_through_2_36 rfl (lv_at hl 0 rfl) ?_
      refine va_instS hx hb hown (hts _ q1151) (hE.1.1 12 _ mm_cX15).2 (mm_recv hE hM mm_cX15 hbR) dX19_through_2_37 ?_
      refine lv_if_eq (tgt := 55) hx hb dX19_through_2_40 (by decide) (fun h9 => absurd h9 (by decide)) (fun _ => ?_)
      refine lv_aload_n hx hb dX19_through_2_43 rfl (lv_at hl 0 rfl) ?_
      refine va_castS hx hb hown (hts _ q1151) (hE.1.1 12 _ mm_cX15).2 (mm_recv hE hM mm_cX15 hbR) dX19_through_2_44 ?_
      refine lv_astore_n hx hb dX19_through_2_47 rfl hl (by decide) rfl (fun ls hl => ?_)
      replace hl : lv_has ls 4 [(3, .ref (vr u)), (2, .ref (vr u)), (0, .ref a), (1, .ref wk)] := hl
      refine lv_aload_n hx hb dX19_through_2_48 rfl (lv_at hl 3 rfl) ?_
      refine lv_aload_n hx hb dX19_through_2_49 rfl (lv_at hl 0 rfl) ?_
      refine mm_callFD (As := [.ref (vr u)]) (rest := []) ⟨hx, hb, hml, hown, hts⟩ hE hST hA (d_X21_at_3 l Z hbR) (va_cwF (C := "RowenTongue$Likening") (x := ⟨"RowenTongue$Walk", "at", "(LRowenTongue$OpenRow;)V"⟩) 1 hts (lw_app (lw_in _ [1153, 1167, 1169, 89] (by decide +kernel) (by decide +kernel)) (lw_meth q1171)) rfl rfl rfl (hE.2.2.1 _ (List.mem_of_getElem? (i := 5) rfl)) (by decide +kernel) ⟨(by (try dsimp only); omega), (by (try dsimp only); omega)⟩) hM hS mm_cE0 hwk3 rfl hl.1 (Nat.le_of_ble_eq_true rfl) dX19_through_2_50 rfl ⟨(by (try dsimp only); omega), (by (try dsimp only); omega)⟩ (fun _ _ _ _ _ _ h9 => h9.elim) (fun v_1 M_2 n_4 k_5 H locs hp_3 hM hS => ?_)
      obtain ⟨rfl, rfl, rfl, eM9⟩ := hp_3
      exact mm_retvD hx hb hr hlk hM hS ⟨rfl, rfl, rfl, by rw [← hocc, eT]; rfl, by rw [eM9]; exact hL0.trans (uL.R hbR), by rw [eM9, ← hlev, eT]; exact hC0.setR hu hbR rfl rfl rfl (fun w hw => ⟨rfl, by simp [ts_like, uoc, Ne.symm hw]⟩) rfl (by simp [ts_like, uoc])⟩ dX19_through_2_55 (by (try dsimp only); omega) (by (try dsimp only); omega)
    · skip
      have hsz : SizeOf.sizeOf T2 = 1 + (1 + SizeOf.sizeOf (uap S2.2.1 x1) + SizeOf.sizeOf k1) + SizeOf.sizeOf (uap S2.2.1 r1) := by rw [eT, uins_size]
      have huh : uh T2 = max (uh (uap S2.2.1 x1) + 1) (uh (uap S2.2.1 r1)) := by rw [eT, uins_h]
      refine va_instS hx hb hown (hts _ q1150) (hE.1.1 11 _ mm_cX14).2 (mm_recv hE hM mm_cX14 hbC) dX19_through_2_6 ?_
      refine lv_if_eq (tgt := 36) hx hb dX19_through_2_9 (by decide) (fun h9 => absurd h9 (by decide)) (fun _ => ?_)
      refine lv_aload_n hx hb dX19_through_2_12 rfl (lv_at hl 0 rfl) ?_
      refine va_castS hx hb hown (hts _ q1150) (hE.1.1 11 _ mm_cX14).2 (mm_recv hE hM mm_cX14 hbC) dX19_through_2_13 ?_
      refine lv_astore_n hx hb dX19_through_2_16 rfl hl (by decide) rfl (fun ls hl => ?_)
      replace hl : lv_has ls 4 [(3, .ref b), (2, .ref b), (0, .ref a), (1, .ref wk)] := hl
      refine lv_aload_n hx hb dX19_through_2_17 rfl (lv_at hl 0 rfl) ?_
      refine va_getN (D := Z.1) (ci := 11) (v := .ref ty1) (C := RX14) (T := TX14) (N := 3) hx hb hts in_X14 hown hE.1 (hM.at hbC) 0 rfl mm_cX14 1 (by decide) (va_Nw.use rfl (hE.2.1 _ q896 rfl)) (fun _ h9 => h9) rfl dX19_through_2_18 ?_
      refine lv_aload_n hx hb dX19_through_2_21 rfl (lv_at hl 3 rfl) ?_
      refine mm_callSD (As := [.ref ty1, .ref wk]) (rest := []) ⟨hx, hb, hml, hown, hts⟩ hE hST hA (ihT _ _ _ _ _ (by omega) rfl hwk3 hC0 hx1) (va_cwS 2 hts (lw_S q1144 q1080 q87 q1081) rfl rfl rfl (by decide +kernel) ⟨(by (try dsimp only); omega), (by (try dsimp only); omega)⟩) hM hS rfl hl.1 (Nat.le_of_ble_eq_true rfl) dX19_through_2_22 rfl ⟨(by (try dsimp only); omega), (by (try dsimp only); omega)⟩ (fun E ce q M9 H1 locs1 hp9 hM9 hS9 hce hcv hcl => by exact mm_outxD htab hlk hM9 hS9 hce hcv hcl ⟨by rw [← hocc, eT]; simp [uins_hf, hp9.1], hp9.2.after hL0⟩ (by (try dsimp only); omega) (by (try dsimp only); omega)) (fun v_1 M_2 n_4 k_5 H locs hp_3 hM hS => ?_)
      obtain ⟨rfl, rfl, rfl, ho1, hL1, hC1⟩ := hp_3
      have hc_6 := hL1.atC hwk3 (by decide)
      have hc_7 := hL1.atC hbC (by decide)
      refine lv_aload_n hx hb dX19_through_2_25 rfl (lv_at hl 0 rfl) ?_
      refine va_getN (D := Z.1) (ci := 11) (v := .ref rs1) (C := RX14) (T := TX14) (N := 3) hx hb hts in_X14 hown hE.1 (hM.at hc_7) 0 rfl mm_cX14 2 (by decide) (va_Nw.use rfl (hE.2.1 _ q900 rfl)) (fun _ h9 => h9) rfl dX19_through_2_26 ?_
      have hr2 := hr1.light hL1
      obtain ⟨d2, b2, hd2, hn2, hcs2⟩ := hC1.nowR' hr2
      refine mm_cutR (b := b2) (pc2 := 32) (ls := ls) (rest := []) (M := M_2) (fun kk9 => ?_) (fun H locs hM hS => ?_) hM hS
      · skip
        have hw9 := c_nowR l Z hn2
        obtain ⟨sm9, hq9⟩ := hn2.at
        rcases hq9 with ⟨lv9, lk9, lc9, hq9⟩ | ⟨rfl, lb9, ty9, rs9, hq9⟩ | ⟨rfl, hq9⟩
        · skip
          refine mm_callU (As := []) (rest := []) ⟨hx, hb, hml, hown, hts⟩ hE hST hA (hw9.1 _ _ _ _ hq9) (va_cwO (x := ⟨"RowenTongue$Row", "now", "()LRowenTongue$Row;"⟩) (C := RX15) (owner := "RowenTongue$Row") 0 hts (lw_app (lw_in _ [1149, 873, 872, 876, 877, 82] (by decide +kernel) (by decide +kernel)) (lw_meth q878)) rfl rfl rfl q880 (by decide +kernel) ⟨(by (try dsimp only); omega), (by (try dsimp only); omega)⟩) hM hS mm_cX15 hq9 rfl hl.1 (Nat.le_of_ble_eq_true rfl) dX19_through_2_29 rfl ⟨(Nat.le_of_ble_eq_true rfl), (Nat.le_of_ble_eq_true rfl)⟩ (fun _ _ _ _ _ _ h9 => h9.elim) (fun v_8 M_9 H locs hp_10 hM hS => ?_)
          obtain ⟨rfl, eM_9⟩ := hp_10
          rw [eM_9] at hM
          exact kk9 _ _ hM hS
        · skip
          refine mm_callU (As := []) (rest := []) ⟨hx, hb, hml, hown, hts⟩ hE hST hA (hw9.2 (Or.inl ⟨_, _, _, hq9⟩)) (va_cwU (x := ⟨"RowenTongue$Row", "now", "()LRowenTongue$Row;"⟩) (C := RX14) (owner := "RowenTongue$Row") 0 hts (lw_app (lw_in _ [1149, 873, 874, 872, 80] (by decide +kernel) (by decide +kernel)) (lw_meth q880)) rfl rfl rfl rfl (by decide +kernel) ⟨(by (try dsimp only); omega), (by (try dsimp only); omega)⟩) hM hS mm_cX14 hq9 rfl hl.1 (Nat.le_of_ble_eq_true rfl) dX19_through_2_29 rfl ⟨(Nat.le_of_ble_eq_true rfl), (Nat.le_of_ble_eq_true rfl)⟩ (fun _ _ _ _ _ _ h9 => h9.elim) (fun v_8 M_9 H locs hp_10 hM hS => ?_)
          obtain ⟨rfl, eM_9⟩ := hp_10
          rw [eM_9] at hM
          exact kk9 _ _ hM hS
        · skip
          refine mm_callU (As := []) (rest := []) ⟨hx, hb, hml, hown, hts⟩ hE hST hA (hw9.2 (Or.inr hq9)) (va_cwU (x := ⟨"RowenTongue$Row", "now", "()LRowenTongue$Row;"⟩) (C := "RowenTongue$Nothing") (owner := "RowenTongue$Row") 0 hts (lw_app (lw_in _ [1149, 873, 875, 872, 80] (by decide +kernel) (by decide +kernel)) (lw_meth q880)) rfl rfl rfl rfl (by decide +kernel) ⟨(by (try dsimp only); omega), (by (try dsimp only); omega)⟩) hM hS mm_cE2 hq9 rfl hl.1 (Nat.le_of_ble_eq_true rfl) dX19_through_2_29 rfl ⟨(Nat.le_of_ble_eq_true rfl), (Nat.le_of_ble_eq_true rfl)⟩ (fun _ _ _ _ _ _ h9 => h9.elim) (fun v_8 M_9 H locs hp_10 hM hS => ?_)
          obtain ⟨rfl, eM_9⟩ := hp_10
          rw [eM_9] at hM
          exact kk9 _ _ hM hS
      refine lv_astore_n hx hb dX19_through_2_32 rfl hl (by decide) rfl (fun ls hl => ?_)
      replace hl : lv_has ls 4 [(2, .ref b2), (3, .ref b), (0, .ref a), (1, .ref wk)] := hl
      refine lv_goto (tgt := 5) hx hb dX19_through_2_33 (by decide) ?_
      refine ih (SizeOf.sizeOf (uap S2.2.1 r1)) (by omega) _ _ _ _ _ _ ⟨uap S2.2.1 r1, b2, ts_like S2 (uap S2.2.1 x1), rfl, by omega, by omega, lv_sub hl [0, 2, 3] rfl, ⟨hS1, hS2⟩, hL0.trans hL1, hC1, hcs2, ?_, ?_, rfl, rfl⟩ hM hS
      · rw [← hlev, eT]; exact ts_like_or (fun _ => uins_oc _)
      · rw [← hocc, eT]; simp [uins_hf, ho1]
