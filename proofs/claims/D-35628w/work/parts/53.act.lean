/-! ===== Plain.act ===== -/
set_option maxRecDepth 100000
theorem mm_Exp.no {p q : Nat} {M N : mm_M} {x : va_E} (h : mm_Exp p M N) (hp : N p = some x) (hq : N q = none) : M q = none := by
  cases h9 : M q with
  | none => rfl
  | some y =>
    have h8 : q ≠ p := fun h7 => by rw [h7, hp] at hq; cases hq
    rw [h q (by rw [h9]; exact fun h6 => by cases h6) h8, h9] at hq
    cases hq
theorem mm_Exp.put {p q : Nat} {M N : mm_M} {y : va_E} (h : mm_Exp p M N) (hq : M q = none) : mm_Exp p M (mm_U N q y) := fun w h8 h7 => (mm_U_ne (fun h9 => h8 (by rw [h9]; exact hq))).trans (h w h8 h7)
theorem mm_Kp.put29 {M : mm_M} {q : Nat} {e : va_E} (hq : M q = some (.inr (29, mm_zs))) : mm_Kp M (mm_U M q e) := ⟨fun a ci fs h hc => (mm_U_ne (fun h9 => by rw [h9, hq] at h; cases h; exact hc.2 rfl)).trans h, fun a x h => (mm_U_ne (mm_neA h hq)).trans h⟩
theorem mm_Kp.rf (M : mm_M) : mm_Kp M M := ⟨fun _ _ _ h _ => h, fun _ _ h => h⟩
theorem app_some {T : List pt_R} {rec : Nat → ev → Nat → pr ev} {f : ev} {g : Nat → pr ev} {c : Nat} {res : Option (ev × Nat)} (h : pe_app T rec f g c = some res) : ∃ t' e' r' j', f = .sub (.natCast t') e' ∧ T[t']? = some r' ∧ r'.2.2.2.1[0]? = some j' ∧ pb (g c) (fun v c3 => rec j' (.add (.pow v (nN r'.2.1)) e') c3) = some res := by
  unfold pe_app at h
  split at h
  · split at h
    · rename_i t' e' _ r' hr
      obtain ⟨j', hj, h1⟩ := at_some h
      exact ⟨t', e', r', j', rfl, hr, hj, h1⟩
    · cases h
  · cases h
theorem cas_some {T : List pt_R} {rec : Nat → ev → Nat → pr ev} {w e : ev} {j c : Nat} {res : Option (ev × Nat)} (h : pe_cas T rec w e j c = some res) : ∃ u l t' r' j', w = .pow u l ∧ ev_case T l 121 j = some t' ∧ T[t']? = some r' ∧ r'.2.2.2.1[0]? = some j' ∧ (if r'.1 = 16 then rec j' (.add (.pow (.pow u l) (nN r'.2.1)) e) c else rec j' (.add (.pow u (nN r'.2.2.1)) e) c) = some res := by
  unfold pe_cas at h
  split at h
  · split at h
    · split at h
      · rename_i u l _ t' ht _ r' hr
        obtain ⟨j', hj, h1⟩ := at_some h
        exact ⟨u, l, t', r', j', rfl, ht, hr, hj, h1⟩
      · cases h
    · cases h
  · cases h
theorem cr_nil (Z : mm_G) (M : mm_M) (ad : List Nat) (T : List pt_R) : cr Z M ad T rc_nil 2 (fun _ => none) none := by simp [rc_nil, cr, ev_abs]
theorem nI_b (b : Bool) : nI (if b then 1 else 0) = mm_b b := by cases b <;> rfl
theorem pe_term {T : List pt_R} {k t n : Nat} {e : ev} {res : Option (ev × Nat)} (h : pe T k t e n = some res) (hn : n ≠ 1000) : ∃ k' r, k = k' + 1 ∧ T[t]? = some r ∧ pe_step T (pe T k') t r e (n + 1) = some res := by
  cases k with
  | zero => cases h
  | succ k =>
    simp only [pe, if_neg hn] at h
    split at h
    · cases h
    · rename_i r hr; exact ⟨k, r, rfl, hr, h⟩
theorem us_tail {T : List pt_R} {k t n0 n : Nat} {e : ev} {res : Option (ev × Nat)} (h : pe T k t e n = some res) (h1 : n0 ≤ n) (h2 : n ≤ 1000) : us n res + (n - n0) ≤ us n0 res := by
  cases res with
  | none => simp only [us]; omega
  | some z =>
    obtain ⟨v, c'⟩ := z
    have := pe_mono T k t e n h2 v c' h
    simp only [us]; omega
theorem cr_env {Z : mm_G} {M : mm_M} {ad : List Nat} {T : List pt_R} {v e : ev} {x : Int32} {a b : Nat} {nx : Option Nat} (h1 : M a = some (.inr (29, [.int x, .ref b, .null, va_rf nx]))) (h2 : cr Z M ad T v 0 (fun _ => none) (some b)) (h3 : cr Z M ad T e 1 (fun _ => none) nx) : cr Z M ad T (.add (.pow v (nN x)) e) 1 (fun _ => none) (some a) := by
  simp only [cr, nI_nN]
  exact ⟨a, b, nx, rfl, h1, h2, h3⟩
theorem cr_again {Z : mm_G} {M : mm_M} {ad : List Nat} {T : List pt_R} {e : ev} {x : Int32} {t a b : Nat} {nx : Option Nat} (h1 : M a = some (.inr (29, [.int x, .null, .ref b, va_rf nx]))) (h2 : ad[t]? = some b) (h3 : cr Z M ad T e 1 (fun _ => none) nx) : cr Z M ad T (.add (.sub (.natCast t) (.natCast (nN x))) e) 1 (fun _ => none) (some a) := by
  simp only [cr, nI_nN]
  exact ⟨a, b, nx, rfl, h2, h1, h3⟩

set_option maxHeartbeats 4000000 in
set_option maxRecDepth 100000 in
theorem c_X30_act (l : Launch) (Z : mm_G) (htr : l.stackTraces = false) (ad : List Nat) (F : Nat → Option Nat) (T : List pt_R) (K : Nat) : ∀ (t : Nat) (en : ev) (n0 : Nat) (res : Option (ev × Nat)) (M : mm_M) (pl ta : Nat) (sc : Option Nat), al_0 Z M → M pl = some (cp_E n0) → n0 ≤ 1000 → ct_T Z M ad F T → ad[t]? = some ta → cr Z M ad T en 1 (fun _ => none) sc → pe T K t en n0 = some res →
    mm_C l Z yX30_act (ws_ yX30_act cX30_act 12 (some (.object "RowenTongue$Value"))) { frames := 1001 - n0 + 40, cells := 8 * us n0 res, slots := 80 * us n0 res, locals := 40 * (1001 - n0) + 800 } [.ref pl, .ref ta, va_rf sc] M (fun v M' => ∃ (w : ev) (n1 a : Nat), res = some (w, n1) ∧ v = some (.ref a) ∧ cr Z M' ad T w 0 (fun _ => none) (some a) ∧ M' pl = some (cp_E n1) ∧ mm_Exp pl M M') (fun E _ M' => res = none ∧ E = "RowenTongue$Far" ∧ M' pl = some (cp_E 1000) ∧ mm_Exp pl M M') := by
  induction K using Nat.strongRecOn with
  | ind K ihK =>
  intro t en n0 res M pl ta sc hz9 hpl hn0 hT9 hta9 hsc9 hpe9
  refine mm_ofW (cc := cX30_act) (maxL := 12) (ret := (some (.object "RowenTongue$Value"))) (by decide) rfl (by simp [lg_sl, mm_cat_o, mm_cat_r, mm_cat_i, mm_cat_l, mm_cat_n]) ?_
  intro p e s m below meth c A ls hx hb hr hlk hml hown hmn hts htab hE hST hA hM hS hl
  replace hl : lv_has ls 12 [(0, .ref pl), (1, .ref ta), (2, va_rf sc)] := by simpa [lv_args, mm_cat_o, mm_cat_r, mm_cat_i, mm_cat_l, mm_cat_n] using hl
  refine lv_aload_n hx hb dX30_act_0 rfl (lv_at hl 1 rfl) ?_
  refine lv_astore_n (lv' := [(3, .ref ta), (0, .ref pl), (1, .ref ta), (2, va_rf sc)]) hx hb dX30_act_1 rfl hl (by decide) (by simp [mm_cat_o, mm_cat_r, mm_cat_i, mm_cat_n, mm_cat_l] <;> decide) (fun ls hl => ?_)
  refine mm_aload_n hx hb dX30_act_2 rfl (lv_at hl 3 rfl) ?_
  refine mm_astore hx hb dX30_act_3 hl (by decide) rfl (fun ls hl => ?_)
  replace hl : lv_has ls 12 [(4, va_rf sc), (3, .ref ta), (0, .ref pl), (1, .ref ta), (2, va_rf sc)] := hl
  refine mm_loopW (fun k M' ls cells slots => ∃ (t' : Nat) (en' : ev) (n ta' : Nat) (sc' : Option Nat), lv_has ls 12 [(4, va_rf sc'), (3, .ref ta'), (0, .ref pl)] ∧ M' pl = some (cp_E n) ∧ n0 ≤ n ∧ n ≤ 1000 ∧ mm_Exp pl M M' ∧ ad[t']? = some ta' ∧ cr Z M' ad T en' 1 (fun _ => none) sc' ∧ pe T k t' en' n = some res ∧ k ≤ K ∧ cells ≤ 8 * (n - n0) ∧ slots ≤ 80 * (n - n0)) (fun k M3 ls H locs cells slots ih hI hM hS => ?_) ⟨t, en, n0, ta, sc, lv_sub hl [0, 1, 2] rfl, hpl, Nat.le_refl _, hn0, mm_Exp.rf pl M, hta9, hsc9, hpe9, Nat.le_refl _, by omega, by omega⟩ hM hS
  obtain ⟨t', en', n, ta', sc', hl, hp3, hn1, hn2, hx3, hta3, hsc3, hpe3, hkK, hc3, hc4⟩ := hI
  have hu3 := us_pos' hn2 hpe3
  have hut := us_tail hpe3 hn1 hn2
  refine lv_aload_n hx hb dX30_act_5 rfl (lv_at hl 2 rfl) ?_
  refine mm_callV (As := []) (rest := []) ⟨hx, hb, hml, hown, hts⟩ hE hST hA (c_X30_count l Z htr hp3 hn2) (cwV 0 hts (lw_V q1804 q1806 qs23 q103 q1807) rfl rfl rfl (by decide +kernel) ⟨(by (try dsimp only); omega), (by (try dsimp only); omega)⟩) hM hS mm_cX30 hp3 rfl hl.1 (Nat.le_of_ble_eq_true rfl) dX30_act_6 rfl ⟨(by (try dsimp only); omega), (by (try dsimp only); omega)⟩ ?_ (fun v_1 M_2 H locs hp_3 hM hS => ?_)
  · intro E ce q9 M9 H1 locs1 hp9 hM9 hS9 hce hcv hcl
    obtain ⟨hc, rfl, ru, rs, hq, rfl⟩ := hp9
    subst hc
    obtain rfl : res = none := pe_1000 hpe3
    exact mm_outx htab hlk hM9 hS9 hce hcv hcl ⟨rfl, rfl, (mm_U_ne (fun h9 => by rw [h9, hq] at hp3; cases hp3)).trans hp3, hx3.trans (fun z h8 h7 => mm_U_ne (fun h9 => h8 (h9 ▸ hq)))⟩ (by (try dsimp only [us]); omega) (by (try dsimp only [us]); omega)
  obtain ⟨hlt, rfl, eM_2⟩ := hp_3
  rw [eM_2] at hM
  have hc_4 : (mm_U M3 pl (.inr (25, [.int (nI (n + 1))]))) pl = some (.inr (25, [.int (nI (n + 1))])) := mm_U_eq
  obtain ⟨M_5, eM_5⟩ : ∃ z, z = mm_U M3 pl (.inr (25, [.int (nI (n + 1))])) := ⟨_, rfl⟩
  rw [← eM_5] at hM hc_4
  have hne : n ≠ 1000 := by omega
  obtain ⟨k, r, rfl, hrr, hpe4⟩ := pe_term hpe3 hne
  have hx4 : mm_Exp pl M M_5 := hx3.trans (by rw [eM_5]; exact mm_Exp.self)
  have hk4 := hx4.K hpl
  have hT4 := hk4.ct hT9
  have hsc4 : cr Z M_5 ad T en' 1 (fun _ => none) sc' := cr.mono (mm_Exp.K (p := pl) (by rw [eM_5]; exact mm_Exp.self) hp3) _ _ _ _ hsc3
  obtain ⟨⟨-, hps3⟩, ta2, tq, tg, g1, g2, g3, g4⟩ := hT4.2 t' r hrr
  obtain rfl : ta2 = ta' := Option.some.inj (g1.symm.trans hta3)
  have hmr : ∀ (j : Nat) (e : ev) (c : Nat), c ≤ 1000 → mono c (pe T k j e c) := fun j e c hc => pe_mono T k j e c hc
  have hkl : k < K := by omega
  unfold pe_step at hpe4
  have ht_6 := (mm_Exp.K (mm_Exp.rf pl M_5) hc_4).1 _ _ _ g2 ⟨by decide, by simp [mm_zs]⟩
  have ht_7 := (mm_Exp.K (mm_Exp.rf pl M_5) hc_4).2 _ _ g3
  refine lv_aload_n hx hb dX30_act_9 rfl (lv_at hl 1 rfl) ?_
  refine va_getN (D := Z.1) (ci := 2) (v := .int r.1) (C := RX3) (T := TX3) (N := 7) hx hb hts in_X3 hown hE.1 (hM.at ht_6) 0 rfl mm_cX3 1 (by decide) (va_Nw.use rfl (hE.2.1 _ q286 rfl)) (fun _ h9 => h9) rfl dX30_act_10 ?_
  by_cases hk0 : r.1 = 0
  · skip
    rw [if_pos hk0] at hpe4
    rw [hk0]
    refine lv_tableIn (tgt := 88) (off := 75) hx hb dX30_act_13 (by decide) (by decide) (by decide) (by decide) ?_
    refine mm_new (D := Z.1) (ci := 27) (fs := mm_f0X33) (C := RX33) (T := TX33) (N := 1) hx hb hts in_X33 tyX33 tyX33_ok hown (hts _ q1823) (hts _ q1824) (hts _ q106) hE.1 hM hS hA mm_cX33 mm_dfX33 (by (try dsimp only); omega) (by (try dsimp only); omega) dX30_act_88 (fun q_9 H nq_8 hM hS => ?_)
    have hM : mm_P Z.1 mm_cl A (mm_U M_5 q_9 (.inr (27, [.int 0]))) H := hM
    have ne_10 : pl ≠ q_9 := (mm_neN hc_4 nq_8)
    have ne_11 : ta2 ≠ q_9 := (mm_neN ht_6 nq_8)
    have ne_12 : tq ≠ q_9 := (mm_neN ht_7 nq_8)
    have hc_13 : (mm_U M_5 q_9 (.inr (27, [.int 0]))) q_9 = some (.inr (27, [.int 0])) := mm_U_eq
    have hc_14 : (mm_U M_5 q_9 (.inr (27, [.int 0]))) pl = some (.inr (25, [.int (nI (n + 1))])) := (mm_U_ne ne_10).trans hc_4
    have hc_15 : (mm_U M_5 q_9 (.inr (27, [.int 0]))) ta2 = some (.inr (2, [.int (nI t'), .int r.1, .int r.2.1, .int r.2.2.1, .ref tq, .int (nI r.2.2.2.2), va_rf (F t')])) := (mm_U_ne ne_11).trans ht_6
    have hc_16 : (mm_U M_5 q_9 (.inr (27, [.int 0]))) tq = some (.inl (Z.2.1 4, r.2.2.2.1.length, .inr (.inr (.inr (.inr tg))))) := (mm_U_ne ne_12).trans ht_7
    obtain ⟨M_17, eM_17⟩ : ∃ z, z = mm_U M_5 q_9 (.inr (27, [.int 0])) := ⟨_, rfl⟩
    rw [← eM_17] at hM hc_14 hc_15 hc_16 hc_13
    have hz_18 : M_5 q_9 = none := mm_Exp.no (mm_Exp.rf pl M_5) hc_4 nq_8
    have e4_19 : mm_Exp pl M_5 M_17 := by rw [eM_17]; exact (mm_Exp.rf pl M_5).put hz_18
    refine lv_dup hx hb dX30_act_91 rfl ?_
    refine lv_aload_n hx hb dX30_act_92 rfl (lv_at hl 1 rfl) ?_
    refine va_getN (D := Z.1) (ci := 2) (v := .int r.2.1) (C := RX3) (T := TX3) (N := 7) hx hb hts in_X3 hown hE.1 (hM.at hc_15) 0 rfl mm_cX3 2 (by decide) (va_Nw.use rfl (hE.2.1 _ q289 rfl)) (fun _ h9 => h9) rfl dX30_act_93 ?_
    refine mm_callI (As := [.int r.2.1]) (rest := [.ref q_9]) ⟨hx, hb, hml, hown, hts⟩ hE hST hA (c_X33_init l Z (M := M_17) (h0 := q_9) (x1 := r.2.1) hc_13) (cwI (maxL := 2) 1 hts (lw_meth q1827) rfl rfl rfl (hts _ q106) (hts _ q1825) (hts _ q1826) rfl (by decide +kernel) ⟨(by (try dsimp only); omega), (by (try dsimp only); omega)⟩) hM hS rfl hl.1 (Nat.le_of_ble_eq_true rfl) dX30_act_96 rfl ⟨(by (try dsimp only); omega), (by (try dsimp only); omega)⟩ (fun _ _ _ _ _ _ h9 => h9.elim) (fun v_20 M_21 H locs hp_22 hM hS => ?_)
    obtain ⟨rfl, eM_21⟩ := hp_22
    rw [eM_21] at hM
    replace hM : mm_P Z.1 mm_cl A (mm_U M_17 q_9 (.inr (27, [.int r.2.1]))) H := hM
    have hc_23 : (mm_U M_17 q_9 (.inr (27, [.int r.2.1]))) q_9 = some (.inr (27, [.int r.2.1])) := mm_U_eq
    have hc_24 : (mm_U M_17 q_9 (.inr (27, [.int r.2.1]))) pl = some (.inr (25, [.int (nI (n + 1))])) := (mm_U_ne ne_10).trans hc_14
    have hc_25 : (mm_U M_17 q_9 (.inr (27, [.int r.2.1]))) ta2 = some (.inr (2, [.int (nI t'), .int r.1, .int r.2.1, .int r.2.2.1, .ref tq, .int (nI r.2.2.2.2), va_rf (F t')])) := (mm_U_ne ne_11).trans hc_15
    have hc_26 : (mm_U M_17 q_9 (.inr (27, [.int r.2.1]))) tq = some (.inl (Z.2.1 4, r.2.2.2.1.length, .inr (.inr (.inr (.inr tg))))) := (mm_U_ne ne_12).trans hc_16
    obtain ⟨M_27, eM_27⟩ : ∃ z, z = mm_U M_17 q_9 (.inr (27, [.int r.2.1])) := ⟨_, rfl⟩
    rw [← eM_27] at hM hc_24 hc_25 hc_26 hc_23
    have e4_28 : mm_Exp pl M_5 M_27 := by rw [eM_27]; exact e4_19.put hz_18
    obtain rfl : res = some (.natCast (nN r.2.1), n + 1) := (Option.some.inj hpe4).symm
    exact mm_reta hx hb hr (Or.inl ⟨_, rfl⟩) (Or.inr ⟨_, rfl⟩) hlk hM hS ⟨.natCast (nN r.2.1), n + 1, q_9, rfl, rfl, by simp only [cr, nI_nN]; exact ⟨_, rfl, hc_23⟩, hc_24, hx4.trans e4_28⟩ dX30_act_99 (by (try dsimp only [us]); omega) (by (try dsimp only [us]); omega)
  rw [if_neg hk0] at hpe4
  by_cases hk1 : r.1 = 1
  · skip
    rw [if_pos hk1] at hpe4
    rw [hk1]
    refine lv_tableIn (tgt := 100) (off := 87) hx hb dX30_act_13 (by decide) (by decide) (by decide) (by decide) ?_
    obtain ⟨out9, ho9⟩ : ∃ o, ev_look r.2.1 en' = some o := by cases h9 : ev_look r.2.1 en' with | none => rw [h9] at hpe4; cases hpe4 | some o => exact ⟨o, rfl⟩
    rw [ho9] at hpe4
    replace hl : lv_has ls 12 [(4, va_rf sc'), (3, .ref ta2), (0, .ref pl)] := lv_sub hl [0, 1, 2] rfl
    refine mm_loopW (fun k1 M' ls cells slots => ∃ (e1 : ev) (s1 : Option Nat), k1 = SizeOf.sizeOf e1 ∧ M_5 = M' ∧ lv_has ls 12 [(4, va_rf s1), (3, .ref ta2), (0, .ref pl)] ∧ cr Z M' ad T e1 1 (fun _ => none) s1 ∧ ev_look r.2.1 e1 = some out9 ∧ cells ≤ 8 * (n - n0) + 1 ∧ slots ≤ 80 * (n - n0) + 6) (fun k1 M1 ls H locs cells slots ih1 hI1 hM hS => ?_) ⟨en', sc', rfl, rfl, hl, hsc4, ho9, by (try dsimp only); omega, by (try dsimp only); omega⟩ hM hS
    obtain ⟨e1, s1, rfl, rfl, hl, hs1, ho1, hc5, hc6⟩ := hI1
    have hcase : (∃ v n1 e2, e1 = .add (.pow v n1) e2) ∨ (∃ t2 n1 e2, e1 = .add (.sub (.natCast t2) (.natCast n1)) e2) := by
      unfold ev_look at ho1
      split at ho1
      · exact Or.inl ⟨_, _, _, rfl⟩
      · exact Or.inr ⟨_, _, _, rfl⟩
      · cases ho1
    rcases hcase with ⟨v1, n1, e2, rfl⟩ | ⟨t2, n1, e2, rfl⟩
    · skip
      simp only [ev_look] at ho1
      simp only [cr] at hs1
      obtain ⟨a1, b1, nx, rfl, hs2, hv1, hs3⟩ := hs1
      refine lv_aload hx hb dX30_act_100 (lv_at hl 0 rfl) ?_
      refine va_getN (D := Z.1) (ci := 29) (v := .int (nI n1)) (C := RX35) (T := TX35) (N := 4) hx hb hts in_X35 hown hE.1 (hM.at hs2) 0 rfl mm_cX35 0 (by decide) (va_Nw.use rfl (hE.2.1 _ q1864 rfl)) (fun _ h9 => h9) rfl dX30_act_102 ?_
      refine lv_aload_n hx hb dX30_act_105 rfl (lv_at hl 1 rfl) ?_
      refine va_getN (D := Z.1) (ci := 2) (v := .int r.2.1) (C := RX3) (T := TX3) (N := 7) hx hb hts in_X3 hown hE.1 (hM.at ht_6) 0 rfl mm_cX3 2 (by decide) (va_Nw.use rfl (hE.2.1 _ q289 rfl)) (fun _ h9 => h9) rfl dX30_act_106 ?_
      refine lv_icmp_eq (tgt := 122) hx hb dX30_act_109 (by decide) (fun c_8 => ?_) (fun c_8 => ?_)
      · skip
        rw [if_pos c_8] at ho1
        cases ho1
        simp only at hpe4
        refine lv_aload hx hb dX30_act_122 (lv_at hl 0 rfl) ?_
        refine va_getN (D := Z.1) (ci := 29) (v := .null) (C := RX35) (T := TX35) (N := 4) hx hb hts in_X35 hown hE.1 (hM.at hs2) 0 rfl mm_cX35 2 (by decide) (va_Nw.use rfl (hE.2.1 _ q1868 rfl)) (fun _ h9 => h9) rfl dX30_act_124 ?_
        refine lv_ifnonnullN hx hb dX30_act_127 ?_
        obtain rfl : res = some (v1, n + 1) := (Option.some.inj hpe4).symm
        refine lv_aload hx hb dX30_act_130 (lv_at hl 0 rfl) ?_
        refine va_getN (D := Z.1) (ci := 29) (v := .ref b1) (C := RX35) (T := TX35) (N := 4) hx hb hts in_X35 hown hE.1 (hM.at hs2) 0 rfl mm_cX35 1 (by decide) (va_Nw.use rfl (hE.2.1 _ q1866 rfl)) (fun _ h9 => h9) rfl dX30_act_132 ?_
        exact mm_reta hx hb hr (Or.inl ⟨_, rfl⟩) (Or.inr ⟨_, rfl⟩) hlk hM hS ⟨v1, n + 1, b1, rfl, rfl, hv1, hc_4, hx4.trans (mm_Exp.rf pl M_5)⟩ dX30_act_135 (by (try dsimp only [us]); omega) (by (try dsimp only [us]); omega)
      · skip
        rw [if_neg c_8] at ho1
        refine lv_aload hx hb dX30_act_112 (lv_at hl 0 rfl) ?_
        refine va_getN (D := Z.1) (ci := 29) (v := va_rf nx) (C := RX35) (T := TX35) (N := 4) hx hb hts in_X35 hown hE.1 (hM.at hs2) 0 rfl mm_cX35 3 (by decide) (va_Nw.use rfl (hE.2.1 _ q1870 rfl)) (fun _ h9 => h9) rfl dX30_act_114 ?_
        refine mm_astore hx hb dX30_act_117 hl (by decide) rfl (fun ls hl => ?_)
        replace hl : lv_has ls 12 [(4, va_rf nx), (3, .ref ta2), (0, .ref pl)] := hl
        refine lv_goto (tgt := 100) hx hb dX30_act_119 (by decide) ?_
        refine ih1 (SizeOf.sizeOf e2) (by simp; omega) _ _ _ _ _ _ ⟨e2, nx, rfl, rfl, lv_sub hl [0, 1, 2] rfl, hs3, ho1, hc5, hc6⟩ hM hS
    · skip
      simp only [ev_look] at ho1
      simp only [cr] at hs1
      obtain ⟨a1, b1, nx, rfl, hb1, hs2, hs3⟩ := hs1
      refine lv_aload hx hb dX30_act_100 (lv_at hl 0 rfl) ?_
      refine va_getN (D := Z.1) (ci := 29) (v := .int (nI n1)) (C := RX35) (T := TX35) (N := 4) hx hb hts in_X35 hown hE.1 (hM.at hs2) 0 rfl mm_cX35 0 (by decide) (va_Nw.use rfl (hE.2.1 _ q1864 rfl)) (fun _ h9 => h9) rfl dX30_act_102 ?_
      refine lv_aload_n hx hb dX30_act_105 rfl (lv_at hl 1 rfl) ?_
      refine va_getN (D := Z.1) (ci := 2) (v := .int r.2.1) (C := RX3) (T := TX3) (N := 7) hx hb hts in_X3 hown hE.1 (hM.at ht_6) 0 rfl mm_cX3 2 (by decide) (va_Nw.use rfl (hE.2.1 _ q289 rfl)) (fun _ h9 => h9) rfl dX30_act_106 ?_
      refine lv_icmp_eq (tgt := 122) hx hb dX30_act_109 (by decide) (fun c_8 => ?_) (fun c_8 => ?_)
      · skip
        rw [if_pos c_8] at ho1
        cases ho1
        simp only at hpe4
        refine lv_aload hx hb dX30_act_122 (lv_at hl 0 rfl) ?_
        refine va_getN (D := Z.1) (ci := 29) (v := .ref b1) (C := RX35) (T := TX35) (N := 4) hx hb hts in_X35 hown hE.1 (hM.at hs2) 0 rfl mm_cX35 2 (by decide) (va_Nw.use rfl (hE.2.1 _ q1868 rfl)) (fun _ h9 => h9) rfl dX30_act_124 ?_
        refine lv_ifnonnull (tgt := 136) hx hb dX30_act_127 (by decide) ?_
        refine lv_aload hx hb dX30_act_136 (lv_at hl 0 rfl) ?_
        refine va_getN (D := Z.1) (ci := 29) (v := .ref b1) (C := RX35) (T := TX35) (N := 4) hx hb hts in_X35 hown hE.1 (hM.at hs2) 0 rfl mm_cX35 2 (by decide) (va_Nw.use rfl (hE.2.1 _ q1868 rfl)) (fun _ h9 => h9) rfl dX30_act_138 ?_
        refine lv_astore_n hx hb dX30_act_141 rfl hl (by decide) rfl (fun ls hl => ?_)
        replace hl : lv_has ls 12 [(3, .ref b1), (4, .ref a1), (0, .ref pl)] := hl
        refine lv_goto (tgt := 600) hx hb dX30_act_142 (by decide) ?_
        refine lv_goto (tgt := 5) hx hb dX30_act_600 (by decide) ?_
        refine ih k (Nat.lt_succ_self k) _ _ _ _ _ _ ⟨t2, _, n + 1, b1, (some a1), lv_sub hl [1, 0, 2] rfl, hc_4, by omega, by omega, hx4.trans (mm_Exp.rf pl M_5), hb1, (by simp only [cr]; exact ⟨a1, b1, nx, rfl, hb1, hs2, hs3⟩), hpe4, by omega, ?_, ?_⟩ hM hS
        · (try dsimp only); omega
        · (try dsimp only); omega
      · skip
        rw [if_neg c_8] at ho1
        refine lv_aload hx hb dX30_act_112 (lv_at hl 0 rfl) ?_
        refine va_getN (D := Z.1) (ci := 29) (v := va_rf nx) (C := RX35) (T := TX35) (N := 4) hx hb hts in_X35 hown hE.1 (hM.at hs2) 0 rfl mm_cX35 3 (by decide) (va_Nw.use rfl (hE.2.1 _ q1870 rfl)) (fun _ h9 => h9) rfl dX30_act_114 ?_
        refine mm_astore hx hb dX30_act_117 hl (by decide) rfl (fun ls hl => ?_)
        replace hl : lv_has ls 12 [(4, va_rf nx), (3, .ref ta2), (0, .ref pl)] := hl
        refine lv_goto (tgt := 100) hx hb dX30_act_119 (by decide) ?_
        refine ih1 (SizeOf.sizeOf e2) (by simp; omega) _ _ _ _ _ _ ⟨e2, nx, rfl, rfl, lv_sub hl [0, 1, 2] rfl, hs3, ho1, hc5, hc6⟩ hM hS
  rw [if_neg hk1] at hpe4
  by_cases hk2 : r.1 = 2
  · skip
    rw [if_pos hk2] at hpe4
    rw [hk2]
    refine lv_tableIn (tgt := 145) (off := 132) hx hb dX30_act_13 (by decide) (by decide) (by decide) (by decide) ?_
    obtain ⟨j1, hj1, hpe5⟩ := at_some hpe4
    obtain ⟨-, b1, hb1, hg1⟩ := g4 0 j1 hj1
    refine mm_new (D := Z.1) (ci := 28) (fs := mm_f0X34) (C := RX34) (T := TX34) (N := 3) hx hb hts in_X34 tyX34 tyX34_ok hown (hts _ q1837) (hts _ q1838) (hts _ q107) hE.1 hM hS hA mm_cX34 mm_dfX34 (by (try dsimp only); omega) (by (try dsimp only); omega) dX30_act_145 (fun q_9 H nq_8 hM hS => ?_)
    have hM : mm_P Z.1 mm_cl A (mm_U M_5 q_9 (.inr (28, [.int 0, .null, .null]))) H := hM
    have ne_10 : pl ≠ q_9 := (mm_neN hc_4 nq_8)
    have ne_11 : ta2 ≠ q_9 := (mm_neN ht_6 nq_8)
    have ne_12 : tq ≠ q_9 := (mm_neN ht_7 nq_8)
    have hc_13 : (mm_U M_5 q_9 (.inr (28, [.int 0, .null, .null]))) q_9 = some (.inr (28, [.int 0, .null, .null])) := mm_U_eq
    have hc_14 : (mm_U M_5 q_9 (.inr (28, [.int 0, .null, .null]))) pl = some (.inr (25, [.int (nI (n + 1))])) := (mm_U_ne ne_10).trans hc_4
    have hc_15 : (mm_U M_5 q_9 (.inr (28, [.int 0, .null, .null]))) ta2 = some (.inr (2, [.int (nI t'), .int r.1, .int r.2.1, .int r.2.2.1, .ref tq, .int (nI r.2.2.2.2), va_rf (F t')])) := (mm_U_ne ne_11).trans ht_6
    have hc_16 : (mm_U M_5 q_9 (.inr (28, [.int 0, .null, .null]))) tq = some (.inl (Z.2.1 4, r.2.2.2.1.length, .inr (.inr (.inr (.inr tg))))) := (mm_U_ne ne_12).trans ht_7
    obtain ⟨M_17, eM_17⟩ : ∃ z, z = mm_U M_5 q_9 (.inr (28, [.int 0, .null, .null])) := ⟨_, rfl⟩
    rw [← eM_17] at hM hc_14 hc_15 hc_16 hc_13
    have hz_18 : M_5 q_9 = none := mm_Exp.no (mm_Exp.rf pl M_5) hc_4 nq_8
    have e4_19 : mm_Exp pl M_5 M_17 := by rw [eM_17]; exact (mm_Exp.rf pl M_5).put hz_18
    refine lv_dup hx hb dX30_act_148 rfl ?_
    refine lv_aload_n hx hb dX30_act_149 rfl (lv_at hl 1 rfl) ?_
    refine va_getN (D := Z.1) (ci := 2) (v := .int r.2.1) (C := RX3) (T := TX3) (N := 7) hx hb hts in_X3 hown hE.1 (hM.at hc_15) 0 rfl mm_cX3 2 (by decide) (va_Nw.use rfl (hE.2.1 _ q289 rfl)) (fun _ h9 => h9) rfl dX30_act_150 ?_
    refine lv_aload_n hx hb dX30_act_153 rfl (lv_at hl 1 rfl) ?_
    refine va_getN (D := Z.1) (ci := 2) (v := .ref tq) (C := RX3) (T := TX3) (N := 7) hx hb hts in_X3 hown hE.1 (hM.at hc_15) 0 rfl mm_cX3 4 (by decide) (va_Nw.use rfl (hE.2.1 _ q295 rfl)) (fun _ h9 => h9) rfl dX30_act_154 ?_
    refine lv_iconst (v := 0) hx hb dX30_act_157 (by decide) ?_
    refine mm_aald (k := 0) hx hb hE hM 4 hc_16 rfl (by decide) (List.getElem?_eq_some_iff.mp hj1).1 (by omega) dX30_act_158 ?_
    rw [hg1]
    refine mm_aload hx hb dX30_act_159 (lv_at hl 0 rfl) ?_
    refine mm_callI (As := [.int r.2.1, .ref b1, va_rf sc']) (rest := [.ref q_9]) ⟨hx, hb, hml, hown, hts⟩ hE hST hA (c_X34_init l Z (M := M_17) (h0 := q_9) (x1 := r.2.1) (x2 := (some b1)) (x3 := sc') hc_13) (cwI (maxL := 4) 3 hts (lw_meth q1841) rfl rfl rfl (hts _ q107) (hts _ q1839) (hts _ q1840) rfl (by decide +kernel) ⟨(by (try dsimp only); omega), (by (try dsimp only); omega)⟩) hM hS rfl hl.1 (Nat.le_of_ble_eq_true rfl) dX30_act_161 rfl ⟨(by (try dsimp only); omega), (by (try dsimp only); omega)⟩ (fun _ _ _ _ _ _ h9 => h9.elim) (fun v_20 M_21 H locs hp_22 hM hS => ?_)
    obtain ⟨rfl, eM_21⟩ := hp_22
    rw [eM_21] at hM
    replace hM : mm_P Z.1 mm_cl A (mm_U M_17 q_9 (.inr (28, [.int r.2.1, .ref b1, va_rf sc']))) H := hM
    have hc_23 : (mm_U M_17 q_9 (.inr (28, [.int r.2.1, .ref b1, va_rf sc']))) q_9 = some (.inr (28, [.int r.2.1, .ref b1, va_rf sc'])) := mm_U_eq
    have hc_24 : (mm_U M_17 q_9 (.inr (28, [.int r.2.1, .ref b1, va_rf sc']))) pl = some (.inr (25, [.int (nI (n + 1))])) := (mm_U_ne ne_10).trans hc_14
    have hc_25 : (mm_U M_17 q_9 (.inr (28, [.int r.2.1, .ref b1, va_rf sc']))) ta2 = some (.inr (2, [.int (nI t'), .int r.1, .int r.2.1, .int r.2.2.1, .ref tq, .int (nI r.2.2.2.2), va_rf (F t')])) := (mm_U_ne ne_11).trans hc_15
    have hc_26 : (mm_U M_17 q_9 (.inr (28, [.int r.2.1, .ref b1, va_rf sc']))) tq = some (.inl (Z.2.1 4, r.2.2.2.1.length, .inr (.inr (.inr (.inr tg))))) := (mm_U_ne ne_12).trans hc_16
    obtain ⟨M_27, eM_27⟩ : ∃ z, z = mm_U M_17 q_9 (.inr (28, [.int r.2.1, .ref b1, va_rf sc'])) := ⟨_, rfl⟩
    rw [← eM_27] at hM hc_24 hc_25 hc_26 hc_23
    have e4_28 : mm_Exp pl M_5 M_27 := by rw [eM_27]; exact e4_19.put hz_18
    obtain rfl : res = some (.sub (.natCast t') en', n + 1) := (Option.some.inj hpe5).symm
    exact mm_reta hx hb hr (Or.inl ⟨_, rfl⟩) (Or.inr ⟨_, rfl⟩) hlk hM hS ⟨.sub (.natCast t') en', n + 1, q_9, rfl, rfl, by simp only [cr]; exact ⟨_, r, j1, b1, sc', rfl, hrr, hj1, hb1, hc_23, cr.mono (mm_Exp.K e4_28 hc_4) _ _ _ _ hsc4⟩, hc_24, hx4.trans e4_28⟩ dX30_act_164 (by (try dsimp only [us]); omega) (by (try dsimp only [us]); omega)
  rw [if_neg hk2] at hpe4
  by_cases hk3 : r.1 = 3
  · skip
    rw [if_pos hk3] at hpe4
    rw [hk3]
    refine lv_tableIn (tgt := 165) (off := 152) hx hb dX30_act_13 (by decide) (by decide) (by decide) (by decide) ?_
    obtain ⟨r1, hx1⟩ := pb_ne hpe4
    obtain ⟨j1, hj1, hr1⟩ := at_some hx1
    obtain ⟨-, b1, hb1, hg1⟩ := g4 0 j1 hj1
    have hro1 := us_pb (n0 := n0) hpe4 hx1 (mono_at (fun j => hmr _ _ _ (by omega))) (fun _ _ _ _ => (by repeat' (first | exact mono_none _ | exact mono_ret (by omega) | exact hmr _ _ _ (by omega) | exact mono_same (by omega) | exact mono_cas hmr (by omega) | (refine mono_app hmr (by omega) ?_) | (refine mono_pb ?_ (fun _ _ _ _ => ?_)) | (refine mono_at (fun _ => ?_)) | split))) (by omega) (by omega)
    refine lv_aload_n hx hb dX30_act_165 rfl (lv_at hl 2 rfl) ?_
    refine lv_aload_n hx hb dX30_act_166 rfl (lv_at hl 1 rfl) ?_
    refine va_getN (D := Z.1) (ci := 2) (v := .ref tq) (C := RX3) (T := TX3) (N := 7) hx hb hts in_X3 hown hE.1 (hM.at ht_6) 0 rfl mm_cX3 4 (by decide) (va_Nw.use rfl (hE.2.1 _ q295 rfl)) (fun _ h9 => h9) rfl dX30_act_167 ?_
    refine lv_iconst (v := 0) hx hb dX30_act_170 (by decide) ?_
    refine mm_aald (k := 0) hx hb hE hM 4 ht_7 rfl (by decide) (List.getElem?_eq_some_iff.mp hj1).1 (by omega) dX30_act_171 ?_
    rw [hg1]
    refine mm_aload hx hb dX30_act_172 (lv_at hl 0 rfl) ?_
    refine mm_callV (As := [.ref b1, va_rf sc']) (rest := []) ⟨hx, hb, hml, hown, hts⟩ hE hST hA (ihK k hkl j1 (en') (n + 1) r1 M_5 pl b1 (sc') (hz9.K ((hx4.trans (mm_Exp.rf pl M_5)).K hpl)) hc_4 (by omega) (((hx4.trans (mm_Exp.rf pl M_5)).K hpl).ct hT9) hb1 (cr.mono (mm_Exp.K (mm_Exp.rf pl M_5) hc_4) _ _ _ _ hsc4) hr1) (cwV 2 hts (lw_V q1856 q1801 q1802 q103 q1803) rfl rfl rfl (by decide +kernel) ⟨(by (try dsimp only); omega), (by (try dsimp only); omega)⟩) hM hS mm_cX30 hc_4 rfl hl.1 (Nat.le_of_ble_eq_true rfl) dX30_act_174 rfl ⟨(by (try dsimp only); omega), (by (try dsimp only); omega)⟩ ?_ (fun v_8 M_9 H locs hp_10 hM hS => ?_)
    · intro E ce q9 M9 H1 locs1 hp9 hM9 hS9 hce hcv hcl
      obtain ⟨rfl, rfl, h8, h7⟩ := hp9
      have hu9 : us (n + 1) (none : Option (ev × Nat)) = 1001 - (n + 1) := rfl
      exact mm_outx htab hlk hM9 hS9 hce hcv hcl ⟨hro1.2.1 rfl, rfl, h8, (hx4.trans (mm_Exp.rf pl M_5)).trans h7⟩ (by (try dsimp only); omega) (by (try dsimp only); omega)
    obtain ⟨w1, c1, a1, rfl, rfl, hw1, hp1, hxx1⟩ := hp_10
    obtain ⟨hpe1, hca1, hcb1⟩ := hro1.2.2 w1 c1 rfl
    have hu1 : us (n + 1) (some (w1, c1)) = c1 - (n + 1) := rfl
    have e41 := (mm_Exp.rf pl M_5).trans hxx1
    have ht_11 := (mm_Exp.K e41 hc_4).1 _ _ _ g2 ⟨by decide, by simp [mm_zs]⟩
    have ht_12 := (mm_Exp.K e41 hc_4).2 _ _ g3
    obtain ⟨t2, e2, r2, j3, rfl, hr2, hj3, hpe5⟩ := app_some hpe1
    simp only [cr] at hw1
    obtain ⟨a9, r9, j9, b3, sc3, e9, h3a, h3b, hb3, hcl, hce⟩ := hw1
    cases e9
    obtain rfl : r9 = r2 := Option.some.inj (h3a.symm.trans hr2)
    obtain rfl : j9 = j3 := Option.some.inj (h3b.symm.trans hj3)
    refine va_castS hx hb hown (hts _ q1837) (hE.1.1 28 _ mm_cX34).2 (mm_recv hE hM mm_cX34 hcl) dX30_act_177 ?_
    refine lv_astore (lv' := [(5, .ref a1), (4, va_rf sc'), (3, .ref ta2), (0, .ref pl)]) hx hb dX30_act_180 hl (by decide) (by simp [mm_cat_o, mm_cat_r, mm_cat_i, mm_cat_n, mm_cat_l] <;> decide) (fun ls hl => ?_)
    refine mm_new (D := Z.1) (ci := 29) (fs := mm_f0X35) (C := RX35) (T := TX35) (N := 4) hx hb hts in_X35 tyX35 tyX35_ok hown (hts _ q1857) (hts _ q1858) (hts _ q108) hE.1 hM hS hA mm_cX35 mm_dfX35 (by (try dsimp only); omega) (by (try dsimp only); omega) dX30_act_182 (fun q_14 H nq_13 hM hS => ?_)
    have hM : mm_P Z.1 mm_cl A (mm_U M_9 q_14 (.inr (29, [.int 0, .null, .null, .null]))) H := hM
    have ne_15 : pl ≠ q_14 := (mm_neN hp1 nq_13)
    have ne_16 : ta2 ≠ q_14 := (mm_neN ht_11 nq_13)
    have ne_17 : tq ≠ q_14 := (mm_neN ht_12 nq_13)
    have ne_18 : a1 ≠ q_14 := (mm_neN hcl nq_13)
    have hc_19 : (mm_U M_9 q_14 (.inr (29, [.int 0, .null, .null, .null]))) q_14 = some (.inr (29, [.int 0, .null, .null, .null])) := mm_U_eq
    have hc_20 : (mm_U M_9 q_14 (.inr (29, [.int 0, .null, .null, .null]))) pl = some (.inr (25, [.int (nI c1)])) := (mm_U_ne ne_15).trans hp1
    have hc_21 : (mm_U M_9 q_14 (.inr (29, [.int 0, .null, .null, .null]))) ta2 = some (.inr (2, [.int (nI t'), .int r.1, .int r.2.1, .int r.2.2.1, .ref tq, .int (nI r.2.2.2.2), va_rf (F t')])) := (mm_U_ne ne_16).trans ht_11
    have hc_22 : (mm_U M_9 q_14 (.inr (29, [.int 0, .null, .null, .null]))) tq = some (.inl (Z.2.1 4, r.2.2.2.1.length, .inr (.inr (.inr (.inr tg))))) := (mm_U_ne ne_17).trans ht_12
    have hc_23 : (mm_U M_9 q_14 (.inr (29, [.int 0, .null, .null, .null]))) a1 = some (.inr (28, [.int r9.2.1, .ref b3, va_rf sc3])) := (mm_U_ne ne_18).trans hcl
    obtain ⟨M_24, eM_24⟩ : ∃ z, z = mm_U M_9 q_14 (.inr (29, [.int 0, .null, .null, .null])) := ⟨_, rfl⟩
    rw [← eM_24] at hM hc_20 hc_21 hc_22 hc_23 hc_19
    have kz_25 : mm_Kp M_9 M_24 := by rw [eM_24]; exact (mm_Ext.U nq_13).K
    have hz_26 : M_5 q_14 = none := mm_Exp.no e41 hp1 nq_13
    have e4_27 : mm_Exp pl M_5 M_24 := by rw [eM_24]; exact e41.put hz_26
    obtain ⟨r2, hx2⟩ := pb_ne hpe5
    obtain ⟨j2, hj2, hr2⟩ := at_some hx2
    obtain ⟨-, b2, hb2, hg2⟩ := g4 1 j2 hj2
    have hro2 := us_pb (n0 := n0) hpe5 hx2 (mono_at (fun j => hmr _ _ _ (by omega))) (fun _ _ _ _ => (by repeat' (first | exact mono_none _ | exact mono_ret (by omega) | exact hmr _ _ _ (by omega) | exact mono_same (by omega) | exact mono_cas hmr (by omega) | (refine mono_app hmr (by omega) ?_) | (refine mono_pb ?_ (fun _ _ _ _ => ?_)) | (refine mono_at (fun _ => ?_)) | split))) (by omega) (by omega)
    refine lv_dup hx hb dX30_act_185 rfl ?_
    refine lv_aload hx hb dX30_act_186 (lv_at hl 0 rfl) ?_
    refine va_getN (D := Z.1) (ci := 28) (v := .int r9.2.1) (C := RX34) (T := TX34) (N := 3) hx hb hts in_X34 hown hE.1 (hM.at hc_23) 0 rfl mm_cX34 0 (by decide) (va_Nw.use rfl (hE.2.1 _ q1844 rfl)) (fun _ h9 => h9) rfl dX30_act_188 ?_
    refine lv_aload_n hx hb dX30_act_191 rfl (lv_at hl 3 rfl) ?_
    refine lv_aload_n hx hb dX30_act_192 rfl (lv_at hl 2 rfl) ?_
    refine va_getN (D := Z.1) (ci := 2) (v := .ref tq) (C := RX3) (T := TX3) (N := 7) hx hb hts in_X3 hown hE.1 (hM.at hc_21) 0 rfl mm_cX3 4 (by decide) (va_Nw.use rfl (hE.2.1 _ q295 rfl)) (fun _ h9 => h9) rfl dX30_act_193 ?_
    refine lv_iconst (v := 1) hx hb dX30_act_196 (by decide) ?_
    refine mm_aald (k := 1) hx hb hE hM 4 hc_22 rfl (by decide) (List.getElem?_eq_some_iff.mp hj2).1 (by omega) dX30_act_197 ?_
    rw [hg2]
    refine mm_aload hx hb dX30_act_198 (lv_at hl 1 rfl) ?_
    refine mm_callV (As := [.ref b2, va_rf sc']) (rest := [.int r9.2.1, .ref q_14, .ref q_14]) ⟨hx, hb, hml, hown, hts⟩ hE hST hA (ihK k hkl j2 (en') (c1) r2 M_24 pl b2 (sc') (hz9.K ((hx4.trans e4_27).K hpl)) hc_20 (by omega) (((hx4.trans e4_27).K hpl).ct hT9) hb2 (cr.mono (mm_Exp.K e4_27 hc_4) _ _ _ _ hsc4) hr2) (cwV 2 hts (lw_V q1856 q1801 q1802 q103 q1803) rfl rfl rfl (by decide +kernel) ⟨(by (try dsimp only); omega), (by (try dsimp only); omega)⟩) hM hS mm_cX30 hc_20 rfl hl.1 (Nat.le_of_ble_eq_true rfl) dX30_act_200 rfl ⟨(by (try dsimp only); omega), (by (try dsimp only); omega)⟩ ?_ (fun v_28 M_29 H locs hp_30 hM hS => ?_)
    · intro E ce q9 M9 H1 locs1 hp9 hM9 hS9 hce hcv hcl
      obtain ⟨rfl, rfl, h8, h7⟩ := hp9
      have hu9 : us c1 (none : Option (ev × Nat)) = 1001 - c1 := rfl
      exact mm_outx htab hlk hM9 hS9 hce hcv hcl ⟨hro2.2.1 rfl, rfl, h8, (hx4.trans e4_27).trans h7⟩ (by (try dsimp only); omega) (by (try dsimp only); omega)
    obtain ⟨w2, c2, a2, rfl, rfl, hw2, hp2, hxx2⟩ := hp_30
    obtain ⟨hpe2, hca2, hcb2⟩ := hro2.2.2 w2 c2 rfl
    have hu2 : us c1 (some (w2, c2)) = c2 - c1 := rfl
    have e42 := e4_27.trans hxx2
    have hc_31 := hxx2.at hc_20 hc_23 (by decide)
    have hc_32 := hxx2.at hc_20 hc_19 (by decide)
    have ht_33 := (mm_Exp.K e42 hc_4).1 _ _ _ g2 ⟨by decide, by simp [mm_zs]⟩
    have ht_34 := (mm_Exp.K e42 hc_4).2 _ _ g3
    refine lv_null hx hb dX30_act_203 ?_
    refine lv_aload hx hb dX30_act_204 (lv_at hl 0 rfl) ?_
    refine va_getN (D := Z.1) (ci := 28) (v := va_rf sc3) (C := RX34) (T := TX34) (N := 3) hx hb hts in_X34 hown hE.1 (hM.at hc_31) 0 rfl mm_cX34 2 (by decide) (va_Nw.use rfl (hE.2.1 _ q1848 rfl)) (fun _ h9 => h9) rfl dX30_act_206 ?_
    refine mm_callI (As := [.int r9.2.1, .ref a2, .null, va_rf sc3]) (rest := [.ref q_14]) ⟨hx, hb, hml, hown, hts⟩ hE hST hA (c_X35_init l Z (M := M_29) (h0 := q_14) (x1 := r9.2.1) (x2 := (some a2)) (x3 := none) (x4 := sc3) hc_32) (cwI (maxL := 5) 4 hts (lw_meth q1861) rfl rfl rfl (hts _ q108) (hts _ q1859) (hts _ q1860) rfl (by decide +kernel) ⟨(by (try dsimp only); omega), (by (try dsimp only); omega)⟩) hM hS rfl hl.1 (Nat.le_of_ble_eq_true rfl) dX30_act_209 rfl ⟨(by (try dsimp only); omega), (by (try dsimp only); omega)⟩ (fun _ _ _ _ _ _ h9 => h9.elim) (fun v_35 M_36 H locs hp_37 hM hS => ?_)
    obtain ⟨rfl, eM_36⟩ := hp_37
    rw [eM_36] at hM
    replace hM : mm_P Z.1 mm_cl A (mm_U M_29 q_14 (.inr (29, [.int r9.2.1, .ref a2, .null, va_rf sc3]))) H := hM
    have hc_38 : (mm_U M_29 q_14 (.inr (29, [.int r9.2.1, .ref a2, .null, va_rf sc3]))) q_14 = some (.inr (29, [.int r9.2.1, .ref a2, .null, va_rf sc3])) := mm_U_eq
    have hc_39 : (mm_U M_29 q_14 (.inr (29, [.int r9.2.1, .ref a2, .null, va_rf sc3]))) pl = some (.inr (25, [.int (nI c2)])) := (mm_U_ne ne_15).trans hp2
    have hc_40 : (mm_U M_29 q_14 (.inr (29, [.int r9.2.1, .ref a2, .null, va_rf sc3]))) ta2 = some (.inr (2, [.int (nI t'), .int r.1, .int r.2.1, .int r.2.2.1, .ref tq, .int (nI r.2.2.2.2), va_rf (F t')])) := (mm_U_ne ne_16).trans ht_33
    have hc_41 : (mm_U M_29 q_14 (.inr (29, [.int r9.2.1, .ref a2, .null, va_rf sc3]))) tq = some (.inl (Z.2.1 4, r.2.2.2.1.length, .inr (.inr (.inr (.inr tg))))) := (mm_U_ne ne_17).trans ht_34
    have hc_42 : (mm_U M_29 q_14 (.inr (29, [.int r9.2.1, .ref a2, .null, va_rf sc3]))) a1 = some (.inr (28, [.int r9.2.1, .ref b3, va_rf sc3])) := (mm_U_ne ne_18).trans hc_31
    obtain ⟨M_43, eM_43⟩ : ∃ z, z = mm_U M_29 q_14 (.inr (29, [.int r9.2.1, .ref a2, .null, va_rf sc3])) := ⟨_, rfl⟩
    rw [← eM_43] at hM hc_39 hc_40 hc_41 hc_42 hc_38
    have kz_44 : mm_Kp M_29 M_43 := by rw [eM_43]; exact mm_Kp.put29 hc_32
    have e4_45 : mm_Exp pl M_5 M_43 := by rw [eM_43]; exact e42.put hz_26
    refine lv_astore hx hb dX30_act_212 hl (by decide) rfl (fun ls hl => ?_)
    replace hl : lv_has ls 12 [(4, .ref q_14), (5, .ref a1), (3, .ref ta2), (0, .ref pl)] := hl
    refine lv_aload hx hb dX30_act_214 (lv_at hl 1 rfl) ?_
    refine va_getN (D := Z.1) (ci := 28) (v := .ref b3) (C := RX34) (T := TX34) (N := 3) hx hb hts in_X34 hown hE.1 (hM.at hc_42) 0 rfl mm_cX34 1 (by decide) (va_Nw.use rfl (hE.2.1 _ q1846 rfl)) (fun _ h9 => h9) rfl dX30_act_216 ?_
    refine lv_astore_n hx hb dX30_act_219 rfl hl (by decide) rfl (fun ls hl => ?_)
    replace hl : lv_has ls 12 [(3, .ref b3), (4, .ref q_14), (5, .ref a1), (0, .ref pl)] := hl
    refine lv_goto (tgt := 600) hx hb dX30_act_220 (by decide) ?_
    refine lv_goto (tgt := 5) hx hb dX30_act_600 (by decide) ?_
    refine ih k (Nat.lt_succ_self k) _ _ _ _ _ _ ⟨j9, _, c2, b3, (some q_14), lv_sub hl [1, 0, 3] rfl, hc_39, by omega, by omega, hx4.trans e4_45, hb3, cr_env hc_38 (cr.mono ((mm_Kp.rf _).trans kz_44) _ _ _ _ hw2) (cr.mono ((((mm_Kp.rf _).trans kz_25).trans (mm_Exp.K hxx2 hc_20)).trans kz_44) _ _ _ _ hce), hpe2, by omega, ?_, ?_⟩ hM hS
    · (try dsimp only); omega
    · (try dsimp only); omega
  rw [if_neg hk3] at hpe4
  by_cases hk4 : r.1 = 4
  · skip
    rw [if_pos hk4] at hpe4
    rw [hk4]
    refine lv_tableIn (tgt := 223) (off := 210) hx hb dX30_act_13 (by decide) (by decide) (by decide) (by decide) ?_
    refine mm_new (D := Z.1) (ci := 29) (fs := mm_f0X35) (C := RX35) (T := TX35) (N := 4) hx hb hts in_X35 tyX35 tyX35_ok hown (hts _ q1857) (hts _ q1858) (hts _ q108) hE.1 hM hS hA mm_cX35 mm_dfX35 (by (try dsimp only); omega) (by (try dsimp only); omega) dX30_act_223 (fun q_9 H nq_8 hM hS => ?_)
    have hM : mm_P Z.1 mm_cl A (mm_U M_5 q_9 (.inr (29, [.int 0, .null, .null, .null]))) H := hM
    have ne_10 : pl ≠ q_9 := (mm_neN hc_4 nq_8)
    have ne_11 : ta2 ≠ q_9 := (mm_neN ht_6 nq_8)
    have ne_12 : tq ≠ q_9 := (mm_neN ht_7 nq_8)
    have hc_13 : (mm_U M_5 q_9 (.inr (29, [.int 0, .null, .null, .null]))) q_9 = some (.inr (29, [.int 0, .null, .null, .null])) := mm_U_eq
    have hc_14 : (mm_U M_5 q_9 (.inr (29, [.int 0, .null, .null, .null]))) pl = some (.inr (25, [.int (nI (n + 1))])) := (mm_U_ne ne_10).trans hc_4
    have hc_15 : (mm_U M_5 q_9 (.inr (29, [.int 0, .null, .null, .null]))) ta2 = some (.inr (2, [.int (nI t'), .int r.1, .int r.2.1, .int r.2.2.1, .ref tq, .int (nI r.2.2.2.2), va_rf (F t')])) := (mm_U_ne ne_11).trans ht_6
    have hc_16 : (mm_U M_5 q_9 (.inr (29, [.int 0, .null, .null, .null]))) tq = some (.inl (Z.2.1 4, r.2.2.2.1.length, .inr (.inr (.inr (.inr tg))))) := (mm_U_ne ne_12).trans ht_7
    obtain ⟨M_17, eM_17⟩ : ∃ z, z = mm_U M_5 q_9 (.inr (29, [.int 0, .null, .null, .null])) := ⟨_, rfl⟩
    rw [← eM_17] at hM hc_14 hc_15 hc_16 hc_13
    have hz_18 : M_5 q_9 = none := mm_Exp.no (mm_Exp.rf pl M_5) hc_4 nq_8
    have e4_19 : mm_Exp pl M_5 M_17 := by rw [eM_17]; exact (mm_Exp.rf pl M_5).put hz_18
    obtain ⟨r1, hx1⟩ := pb_ne hpe4
    obtain ⟨j1, hj1, hr1⟩ := at_some hx1
    obtain ⟨-, b1, hb1, hg1⟩ := g4 0 j1 hj1
    have hro1 := us_pb (n0 := n0) hpe4 hx1 (mono_at (fun j => hmr _ _ _ (by omega))) (fun _ _ _ _ => (by repeat' (first | exact mono_none _ | exact mono_ret (by omega) | exact hmr _ _ _ (by omega) | exact mono_same (by omega) | exact mono_cas hmr (by omega) | (refine mono_app hmr (by omega) ?_) | (refine mono_pb ?_ (fun _ _ _ _ => ?_)) | (refine mono_at (fun _ => ?_)) | split))) (by omega) (by omega)
    refine lv_dup hx hb dX30_act_226 rfl ?_
    refine lv_aload_n hx hb dX30_act_227 rfl (lv_at hl 1 rfl) ?_
    refine va_getN (D := Z.1) (ci := 2) (v := .int r.2.1) (C := RX3) (T := TX3) (N := 7) hx hb hts in_X3 hown hE.1 (hM.at hc_15) 0 rfl mm_cX3 2 (by decide) (va_Nw.use rfl (hE.2.1 _ q289 rfl)) (fun _ h9 => h9) rfl dX30_act_228 ?_
    refine lv_aload_n hx hb dX30_act_231 rfl (lv_at hl 2 rfl) ?_
    refine lv_aload_n hx hb dX30_act_232 rfl (lv_at hl 1 rfl) ?_
    refine va_getN (D := Z.1) (ci := 2) (v := .ref tq) (C := RX3) (T := TX3) (N := 7) hx hb hts in_X3 hown hE.1 (hM.at hc_15) 0 rfl mm_cX3 4 (by decide) (va_Nw.use rfl (hE.2.1 _ q295 rfl)) (fun _ h9 => h9) rfl dX30_act_233 ?_
    refine lv_iconst (v := 0) hx hb dX30_act_236 (by decide) ?_
    refine mm_aald (k := 0) hx hb hE hM 4 hc_16 rfl (by decide) (List.getElem?_eq_some_iff.mp hj1).1 (by omega) dX30_act_237 ?_
    rw [hg1]
    refine mm_aload hx hb dX30_act_238 (lv_at hl 0 rfl) ?_
    refine mm_callV (As := [.ref b1, va_rf sc']) (rest := [.int r.2.1, .ref q_9, .ref q_9]) ⟨hx, hb, hml, hown, hts⟩ hE hST hA (ihK k hkl j1 (en') (n + 1) r1 M_17 pl b1 (sc') (hz9.K ((hx4.trans e4_19).K hpl)) hc_14 (by omega) (((hx4.trans e4_19).K hpl).ct hT9) hb1 (cr.mono (mm_Exp.K e4_19 hc_4) _ _ _ _ hsc4) hr1) (cwV 2 hts (lw_V q1856 q1801 q1802 q103 q1803) rfl rfl rfl (by decide +kernel) ⟨(by (try dsimp only); omega), (by (try dsimp only); omega)⟩) hM hS mm_cX30 hc_14 rfl hl.1 (Nat.le_of_ble_eq_true rfl) dX30_act_240 rfl ⟨(by (try dsimp only); omega), (by (try dsimp only); omega)⟩ ?_ (fun v_20 M_21 H locs hp_22 hM hS => ?_)
    · intro E ce q9 M9 H1 locs1 hp9 hM9 hS9 hce hcv hcl
      obtain ⟨rfl, rfl, h8, h7⟩ := hp9
      have hu9 : us (n + 1) (none : Option (ev × Nat)) = 1001 - (n + 1) := rfl
      exact mm_outx htab hlk hM9 hS9 hce hcv hcl ⟨hro1.2.1 rfl, rfl, h8, (hx4.trans e4_19).trans h7⟩ (by (try dsimp only); omega) (by (try dsimp only); omega)
    obtain ⟨w1, c1, a1, rfl, rfl, hw1, hp1, hxx1⟩ := hp_22
    obtain ⟨hpe1, hca1, hcb1⟩ := hro1.2.2 w1 c1 rfl
    have hu1 : us (n + 1) (some (w1, c1)) = c1 - (n + 1) := rfl
    have e41 := e4_19.trans hxx1
    have hc_23 := hxx1.at hc_14 hc_13 (by decide)
    have ht_24 := (mm_Exp.K e41 hc_4).1 _ _ _ g2 ⟨by decide, by simp [mm_zs]⟩
    have ht_25 := (mm_Exp.K e41 hc_4).2 _ _ g3
    refine lv_null hx hb dX30_act_243 ?_
    refine mm_aload hx hb dX30_act_244 (lv_at hl 0 rfl) ?_
    refine mm_callI (As := [.int r.2.1, .ref a1, .null, va_rf sc']) (rest := [.ref q_9]) ⟨hx, hb, hml, hown, hts⟩ hE hST hA (c_X35_init l Z (M := M_21) (h0 := q_9) (x1 := r.2.1) (x2 := (some a1)) (x3 := none) (x4 := sc') hc_23) (cwI (maxL := 5) 4 hts (lw_meth q1861) rfl rfl rfl (hts _ q108) (hts _ q1859) (hts _ q1860) rfl (by decide +kernel) ⟨(by (try dsimp only); omega), (by (try dsimp only); omega)⟩) hM hS rfl hl.1 (Nat.le_of_ble_eq_true rfl) dX30_act_246 rfl ⟨(by (try dsimp only); omega), (by (try dsimp only); omega)⟩ (fun _ _ _ _ _ _ h9 => h9.elim) (fun v_26 M_27 H locs hp_28 hM hS => ?_)
    obtain ⟨rfl, eM_27⟩ := hp_28
    rw [eM_27] at hM
    replace hM : mm_P Z.1 mm_cl A (mm_U M_21 q_9 (.inr (29, [.int r.2.1, .ref a1, .null, va_rf sc']))) H := hM
    have hc_29 : (mm_U M_21 q_9 (.inr (29, [.int r.2.1, .ref a1, .null, va_rf sc']))) q_9 = some (.inr (29, [.int r.2.1, .ref a1, .null, va_rf sc'])) := mm_U_eq
    have hc_30 : (mm_U M_21 q_9 (.inr (29, [.int r.2.1, .ref a1, .null, va_rf sc']))) pl = some (.inr (25, [.int (nI c1)])) := (mm_U_ne ne_10).trans hp1
    have hc_31 : (mm_U M_21 q_9 (.inr (29, [.int r.2.1, .ref a1, .null, va_rf sc']))) ta2 = some (.inr (2, [.int (nI t'), .int r.1, .int r.2.1, .int r.2.2.1, .ref tq, .int (nI r.2.2.2.2), va_rf (F t')])) := (mm_U_ne ne_11).trans ht_24
    have hc_32 : (mm_U M_21 q_9 (.inr (29, [.int r.2.1, .ref a1, .null, va_rf sc']))) tq = some (.inl (Z.2.1 4, r.2.2.2.1.length, .inr (.inr (.inr (.inr tg))))) := (mm_U_ne ne_12).trans ht_25
    obtain ⟨M_33, eM_33⟩ : ∃ z, z = mm_U M_21 q_9 (.inr (29, [.int r.2.1, .ref a1, .null, va_rf sc'])) := ⟨_, rfl⟩
    rw [← eM_33] at hM hc_30 hc_31 hc_32 hc_29
    have kz_34 : mm_Kp M_21 M_33 := by rw [eM_33]; exact mm_Kp.put29 hc_23
    have e4_35 : mm_Exp pl M_5 M_33 := by rw [eM_33]; exact e41.put hz_18
    obtain ⟨j2, hj2, hpe5⟩ := at_some hpe1
    obtain ⟨-, b2, hb2, hg2⟩ := g4 1 j2 hj2
    refine lv_astore hx hb dX30_act_249 hl (by decide) rfl (fun ls hl => ?_)
    replace hl : lv_has ls 12 [(4, .ref q_9), (3, .ref ta2), (0, .ref pl)] := hl
    refine lv_aload_n hx hb dX30_act_251 rfl (lv_at hl 1 rfl) ?_
    refine va_getN (D := Z.1) (ci := 2) (v := .ref tq) (C := RX3) (T := TX3) (N := 7) hx hb hts in_X3 hown hE.1 (hM.at hc_31) 0 rfl mm_cX3 4 (by decide) (va_Nw.use rfl (hE.2.1 _ q295 rfl)) (fun _ h9 => h9) rfl dX30_act_252 ?_
    refine lv_iconst (v := 1) hx hb dX30_act_255 (by decide) ?_
    refine mm_aald (k := 1) hx hb hE hM 4 hc_32 rfl (by decide) (List.getElem?_eq_some_iff.mp hj2).1 (by omega) dX30_act_256 ?_
    rw [hg2]
    refine lv_astore_n hx hb dX30_act_257 rfl hl (by decide) rfl (fun ls hl => ?_)
    replace hl : lv_has ls 12 [(3, .ref b2), (4, .ref q_9), (0, .ref pl)] := hl
    refine lv_goto (tgt := 600) hx hb dX30_act_258 (by decide) ?_
    refine lv_goto (tgt := 5) hx hb dX30_act_600 (by decide) ?_
    refine ih k (Nat.lt_succ_self k) _ _ _ _ _ _ ⟨j2, _, c1, b2, (some q_9), lv_sub hl [1, 0, 2] rfl, hc_30, by omega, by omega, hx4.trans e4_35, hb2, cr_env hc_29 (cr.mono (by rw [eM_33]; exact mm_Kp.put29 hc_23) _ _ _ _ hw1) (cr.mono (mm_Exp.K e4_35 hc_4) _ _ _ _ hsc4), hpe5, by omega, ?_, ?_⟩ hM hS
    · (try dsimp only); omega
    · (try dsimp only); omega
  rw [if_neg hk4] at hpe4
  by_cases hk5 : r.1 = 5
  · skip
    rw [if_pos hk5] at hpe4
    rw [hk5]
    refine lv_tableIn (tgt := 261) (off := 248) hx hb dX30_act_13 (by decide) (by decide) (by decide) (by decide) ?_
    obtain ⟨r1, hx1⟩ := pb_ne hpe4
    obtain ⟨j1, hj1, hr1⟩ := at_some hx1
    obtain ⟨-, b1, hb1, hg1⟩ := g4 0 j1 hj1
    have hro1 := us_pb (n0 := n0) hpe4 hx1 (mono_at (fun j => hmr _ _ _ (by omega))) (fun _ _ _ _ => (by repeat' (first | exact mono_none _ | exact mono_ret (by omega) | exact hmr _ _ _ (by omega) | exact mono_same (by omega) | exact mono_cas hmr (by omega) | (refine mono_app hmr (by omega) ?_) | (refine mono_pb ?_ (fun _ _ _ _ => ?_)) | (refine mono_at (fun _ => ?_)) | split))) (by omega) (by omega)
    refine lv_aload_n hx hb dX30_act_261 rfl (lv_at hl 2 rfl) ?_
    refine lv_aload_n hx hb dX30_act_262 rfl (lv_at hl 1 rfl) ?_
    refine va_getN (D := Z.1) (ci := 2) (v := .ref tq) (C := RX3) (T := TX3) (N := 7) hx hb hts in_X3 hown hE.1 (hM.at ht_6) 0 rfl mm_cX3 4 (by decide) (va_Nw.use rfl (hE.2.1 _ q295 rfl)) (fun _ h9 => h9) rfl dX30_act_263 ?_
    refine lv_iconst (v := 0) hx hb dX30_act_266 (by decide) ?_
    refine mm_aald (k := 0) hx hb hE hM 4 ht_7 rfl (by decide) (List.getElem?_eq_some_iff.mp hj1).1 (by omega) dX30_act_267 ?_
    rw [hg1]
    refine mm_new (D := Z.1) (ci := 29) (fs := mm_f0X35) (C := RX35) (T := TX35) (N := 4) hx hb hts in_X35 tyX35 tyX35_ok hown (hts _ q1857) (hts _ q1858) (hts _ q108) hE.1 hM hS hA mm_cX35 mm_dfX35 (by (try dsimp only); omega) (by (try dsimp only); omega) dX30_act_268 (fun q_9 H nq_8 hM hS => ?_)
    have hM : mm_P Z.1 mm_cl A (mm_U M_5 q_9 (.inr (29, [.int 0, .null, .null, .null]))) H := hM
    have ne_10 : pl ≠ q_9 := (mm_neN hc_4 nq_8)
    have ne_11 : ta2 ≠ q_9 := (mm_neN ht_6 nq_8)
    have ne_12 : tq ≠ q_9 := (mm_neN ht_7 nq_8)
    have hc_13 : (mm_U M_5 q_9 (.inr (29, [.int 0, .null, .null, .null]))) q_9 = some (.inr (29, [.int 0, .null, .null, .null])) := mm_U_eq
    have hc_14 : (mm_U M_5 q_9 (.inr (29, [.int 0, .null, .null, .null]))) pl = some (.inr (25, [.int (nI (n + 1))])) := (mm_U_ne ne_10).trans hc_4
    have hc_15 : (mm_U M_5 q_9 (.inr (29, [.int 0, .null, .null, .null]))) ta2 = some (.inr (2, [.int (nI t'), .int r.1, .int r.2.1, .int r.2.2.1, .ref tq, .int (nI r.2.2.2.2), va_rf (F t')])) := (mm_U_ne ne_11).trans ht_6
    have hc_16 : (mm_U M_5 q_9 (.inr (29, [.int 0, .null, .null, .null]))) tq = some (.inl (Z.2.1 4, r.2.2.2.1.length, .inr (.inr (.inr (.inr tg))))) := (mm_U_ne ne_12).trans ht_7
    obtain ⟨M_17, eM_17⟩ : ∃ z, z = mm_U M_5 q_9 (.inr (29, [.int 0, .null, .null, .null])) := ⟨_, rfl⟩
    rw [← eM_17] at hM hc_14 hc_15 hc_16 hc_13
    have hz_18 : M_5 q_9 = none := mm_Exp.no (mm_Exp.rf pl M_5) hc_4 nq_8
    have e4_19 : mm_Exp pl M_5 M_17 := by rw [eM_17]; exact (mm_Exp.rf pl M_5).put hz_18
    refine lv_dup hx hb dX30_act_271 rfl ?_
    refine lv_aload_n hx hb dX30_act_272 rfl (lv_at hl 1 rfl) ?_
    refine va_getN (D := Z.1) (ci := 2) (v := .int r.2.1) (C := RX3) (T := TX3) (N := 7) hx hb hts in_X3 hown hE.1 (hM.at hc_15) 0 rfl mm_cX3 2 (by decide) (va_Nw.use rfl (hE.2.1 _ q289 rfl)) (fun _ h9 => h9) rfl dX30_act_273 ?_
    refine lv_null hx hb dX30_act_276 ?_
    refine lv_aload_n hx hb dX30_act_277 rfl (lv_at hl 1 rfl) ?_
    refine va_getN (D := Z.1) (ci := 2) (v := .ref tq) (C := RX3) (T := TX3) (N := 7) hx hb hts in_X3 hown hE.1 (hM.at hc_15) 0 rfl mm_cX3 4 (by decide) (va_Nw.use rfl (hE.2.1 _ q295 rfl)) (fun _ h9 => h9) rfl dX30_act_278 ?_
    refine lv_iconst (v := 0) hx hb dX30_act_281 (by decide) ?_
    refine mm_aald (k := 0) hx hb hE hM 4 hc_16 rfl (by decide) (List.getElem?_eq_some_iff.mp hj1).1 (by omega) dX30_act_282 ?_
    rw [hg1]
    refine mm_aload hx hb dX30_act_283 (lv_at hl 0 rfl) ?_
    refine mm_callI (As := [.int r.2.1, .null, .ref b1, va_rf sc']) (rest := [.ref q_9, .ref b1, .ref pl]) ⟨hx, hb, hml, hown, hts⟩ hE hST hA (c_X35_init l Z (M := M_17) (h0 := q_9) (x1 := r.2.1) (x2 := none) (x3 := (some b1)) (x4 := sc') hc_13) (cwI (maxL := 5) 4 hts (lw_meth q1861) rfl rfl rfl (hts _ q108) (hts _ q1859) (hts _ q1860) rfl (by decide +kernel) ⟨(by (try dsimp only); omega), (by (try dsimp only); omega)⟩) hM hS rfl hl.1 (Nat.le_of_ble_eq_true rfl) dX30_act_285 rfl ⟨(by (try dsimp only); omega), (by (try dsimp only); omega)⟩ (fun _ _ _ _ _ _ h9 => h9.elim) (fun v_20 M_21 H locs hp_22 hM hS => ?_)
    obtain ⟨rfl, eM_21⟩ := hp_22
    rw [eM_21] at hM
    replace hM : mm_P Z.1 mm_cl A (mm_U M_17 q_9 (.inr (29, [.int r.2.1, .null, .ref b1, va_rf sc']))) H := hM
    have hc_23 : (mm_U M_17 q_9 (.inr (29, [.int r.2.1, .null, .ref b1, va_rf sc']))) q_9 = some (.inr (29, [.int r.2.1, .null, .ref b1, va_rf sc'])) := mm_U_eq
    have hc_24 : (mm_U M_17 q_9 (.inr (29, [.int r.2.1, .null, .ref b1, va_rf sc']))) pl = some (.inr (25, [.int (nI (n + 1))])) := (mm_U_ne ne_10).trans hc_14
    have hc_25 : (mm_U M_17 q_9 (.inr (29, [.int r.2.1, .null, .ref b1, va_rf sc']))) ta2 = some (.inr (2, [.int (nI t'), .int r.1, .int r.2.1, .int r.2.2.1, .ref tq, .int (nI r.2.2.2.2), va_rf (F t')])) := (mm_U_ne ne_11).trans hc_15
    have hc_26 : (mm_U M_17 q_9 (.inr (29, [.int r.2.1, .null, .ref b1, va_rf sc']))) tq = some (.inl (Z.2.1 4, r.2.2.2.1.length, .inr (.inr (.inr (.inr tg))))) := (mm_U_ne ne_12).trans hc_16
    obtain ⟨M_27, eM_27⟩ : ∃ z, z = mm_U M_17 q_9 (.inr (29, [.int r.2.1, .null, .ref b1, va_rf sc'])) := ⟨_, rfl⟩
    rw [← eM_27] at hM hc_24 hc_25 hc_26 hc_23
    have e4_28 : mm_Exp pl M_5 M_27 := by rw [eM_27]; exact e4_19.put hz_18
    refine mm_callV (As := [.ref b1, .ref q_9]) (rest := []) ⟨hx, hb, hml, hown, hts⟩ hE hST hA (ihK k hkl j1 ((.add (.sub (.natCast j1) (.natCast (nN r.2.1))) en')) (n + 1) r1 M_27 pl b1 ((some q_9)) (hz9.K ((hx4.trans e4_28).K hpl)) hc_24 (by omega) (((hx4.trans e4_28).K hpl).ct hT9) hb1 (cr_again hc_23 hb1 (cr.mono (mm_Exp.K e4_28 hc_4) _ _ _ _ hsc4)) hr1) (cwV 2 hts (lw_V q1856 q1801 q1802 q103 q1803) rfl rfl rfl (by decide +kernel) ⟨(by (try dsimp only); omega), (by (try dsimp only); omega)⟩) hM hS mm_cX30 hc_24 rfl hl.1 (Nat.le_of_ble_eq_true rfl) dX30_act_288 rfl ⟨(by (try dsimp only); omega), (by (try dsimp only); omega)⟩ ?_ (fun v_29 M_30 H locs hp_31 hM hS => ?_)
    · intro E ce q9 M9 H1 locs1 hp9 hM9 hS9 hce hcv hcl
      obtain ⟨rfl, rfl, h8, h7⟩ := hp9
      have hu9 : us (n + 1) (none : Option (ev × Nat)) = 1001 - (n + 1) := rfl
      exact mm_outx htab hlk hM9 hS9 hce hcv hcl ⟨hro1.2.1 rfl, rfl, h8, (hx4.trans e4_28).trans h7⟩ (by (try dsimp only); omega) (by (try dsimp only); omega)
    obtain ⟨w1, c1, a1, rfl, rfl, hw1, hp1, hxx1⟩ := hp_31
    obtain ⟨hpe1, hca1, hcb1⟩ := hro1.2.2 w1 c1 rfl
    have hu1 : us (n + 1) (some (w1, c1)) = c1 - (n + 1) := rfl
    have e41 := e4_28.trans hxx1
    have hc_32 := hxx1.at hc_24 hc_23 (by decide)
    have ht_33 := (mm_Exp.K e41 hc_4).1 _ _ _ g2 ⟨by decide, by simp [mm_zs]⟩
    have ht_34 := (mm_Exp.K e41 hc_4).2 _ _ g3
    refine lv_astore hx hb dX30_act_291 hl (by decide) rfl (fun ls hl => ?_)
    replace hl : lv_has ls 12 [(6, .ref a1), (4, va_rf sc'), (3, .ref ta2), (0, .ref pl)] := hl
    refine mm_new (D := Z.1) (ci := 29) (fs := mm_f0X35) (C := RX35) (T := TX35) (N := 4) hx hb hts in_X35 tyX35 tyX35_ok hown (hts _ q1857) (hts _ q1858) (hts _ q108) hE.1 hM hS hA mm_cX35 mm_dfX35 (by (try dsimp only); omega) (by (try dsimp only); omega) dX30_act_293 (fun q_36 H nq_35 hM hS => ?_)
    have hM : mm_P Z.1 mm_cl A (mm_U M_30 q_36 (.inr (29, [.int 0, .null, .null, .null]))) H := hM
    have ne_37 : pl ≠ q_36 := (mm_neN hp1 nq_35)
    have ne_38 : ta2 ≠ q_36 := (mm_neN ht_33 nq_35)
    have ne_39 : tq ≠ q_36 := (mm_neN ht_34 nq_35)
    have ne_40 : q_9 ≠ q_36 := (mm_neN hc_32 nq_35)
    have hc_41 : (mm_U M_30 q_36 (.inr (29, [.int 0, .null, .null, .null]))) q_36 = some (.inr (29, [.int 0, .null, .null, .null])) := mm_U_eq
    have hc_42 : (mm_U M_30 q_36 (.inr (29, [.int 0, .null, .null, .null]))) pl = some (.inr (25, [.int (nI c1)])) := (mm_U_ne ne_37).trans hp1
    have hc_43 : (mm_U M_30 q_36 (.inr (29, [.int 0, .null, .null, .null]))) ta2 = some (.inr (2, [.int (nI t'), .int r.1, .int r.2.1, .int r.2.2.1, .ref tq, .int (nI r.2.2.2.2), va_rf (F t')])) := (mm_U_ne ne_38).trans ht_33
    have hc_44 : (mm_U M_30 q_36 (.inr (29, [.int 0, .null, .null, .null]))) tq = some (.inl (Z.2.1 4, r.2.2.2.1.length, .inr (.inr (.inr (.inr tg))))) := (mm_U_ne ne_39).trans ht_34
    have hc_45 : (mm_U M_30 q_36 (.inr (29, [.int 0, .null, .null, .null]))) q_9 = some (.inr (29, [.int r.2.1, .null, .ref b1, va_rf sc'])) := (mm_U_ne ne_40).trans hc_32
    obtain ⟨M_46, eM_46⟩ : ∃ z, z = mm_U M_30 q_36 (.inr (29, [.int 0, .null, .null, .null])) := ⟨_, rfl⟩
    rw [← eM_46] at hM hc_42 hc_43 hc_44 hc_45 hc_41
    have kz_47 : mm_Kp M_30 M_46 := by rw [eM_46]; exact (mm_Ext.U nq_35).K
    have hz_48 : M_5 q_36 = none := mm_Exp.no e41 hp1 nq_35
    have e4_49 : mm_Exp pl M_5 M_46 := by rw [eM_46]; exact e41.put hz_48
    refine lv_dup hx hb dX30_act_296 rfl ?_
    refine lv_aload_n hx hb dX30_act_297 rfl (lv_at hl 2 rfl) ?_
    refine va_getN (D := Z.1) (ci := 2) (v := .int r.2.1) (C := RX3) (T := TX3) (N := 7) hx hb hts in_X3 hown hE.1 (hM.at hc_43) 0 rfl mm_cX3 2 (by decide) (va_Nw.use rfl (hE.2.1 _ q289 rfl)) (fun _ h9 => h9) rfl dX30_act_298 ?_
    refine lv_aload hx hb dX30_act_301 (lv_at hl 0 rfl) ?_
    refine lv_null hx hb dX30_act_303 ?_
    refine mm_aload hx hb dX30_act_304 (lv_at hl 1 rfl) ?_
    refine mm_callI (As := [.int r.2.1, .ref a1, .null, va_rf sc']) (rest := [.ref q_36]) ⟨hx, hb, hml, hown, hts⟩ hE hST hA (c_X35_init l Z (M := M_46) (h0 := q_36) (x1 := r.2.1) (x2 := (some a1)) (x3 := none) (x4 := sc') hc_41) (cwI (maxL := 5) 4 hts (lw_meth q1861) rfl rfl rfl (hts _ q108) (hts _ q1859) (hts _ q1860) rfl (by decide +kernel) ⟨(by (try dsimp only); omega), (by (try dsimp only); omega)⟩) hM hS rfl hl.1 (Nat.le_of_ble_eq_true rfl) dX30_act_306 rfl ⟨(by (try dsimp only); omega), (by (try dsimp only); omega)⟩ (fun _ _ _ _ _ _ h9 => h9.elim) (fun v_50 M_51 H locs hp_52 hM hS => ?_)
    obtain ⟨rfl, eM_51⟩ := hp_52
    rw [eM_51] at hM
    replace hM : mm_P Z.1 mm_cl A (mm_U M_46 q_36 (.inr (29, [.int r.2.1, .ref a1, .null, va_rf sc']))) H := hM
    have hc_53 : (mm_U M_46 q_36 (.inr (29, [.int r.2.1, .ref a1, .null, va_rf sc']))) q_36 = some (.inr (29, [.int r.2.1, .ref a1, .null, va_rf sc'])) := mm_U_eq
    have hc_54 : (mm_U M_46 q_36 (.inr (29, [.int r.2.1, .ref a1, .null, va_rf sc']))) pl = some (.inr (25, [.int (nI c1)])) := (mm_U_ne ne_37).trans hc_42
    have hc_55 : (mm_U M_46 q_36 (.inr (29, [.int r.2.1, .ref a1, .null, va_rf sc']))) ta2 = some (.inr (2, [.int (nI t'), .int r.1, .int r.2.1, .int r.2.2.1, .ref tq, .int (nI r.2.2.2.2), va_rf (F t')])) := (mm_U_ne ne_38).trans hc_43
    have hc_56 : (mm_U M_46 q_36 (.inr (29, [.int r.2.1, .ref a1, .null, va_rf sc']))) tq = some (.inl (Z.2.1 4, r.2.2.2.1.length, .inr (.inr (.inr (.inr tg))))) := (mm_U_ne ne_39).trans hc_44
    have hc_57 : (mm_U M_46 q_36 (.inr (29, [.int r.2.1, .ref a1, .null, va_rf sc']))) q_9 = some (.inr (29, [.int r.2.1, .null, .ref b1, va_rf sc'])) := (mm_U_ne ne_40).trans hc_45
    obtain ⟨M_58, eM_58⟩ : ∃ z, z = mm_U M_46 q_36 (.inr (29, [.int r.2.1, .ref a1, .null, va_rf sc'])) := ⟨_, rfl⟩
    rw [← eM_58] at hM hc_54 hc_55 hc_56 hc_57 hc_53
    have kz_59 : mm_Kp M_46 M_58 := by rw [eM_58]; exact mm_Kp.put29 hc_41
    have e4_60 : mm_Exp pl M_5 M_58 := by rw [eM_58]; exact e4_49.put hz_48
    obtain ⟨j2, hj2, hpe5⟩ := at_some hpe1
    obtain ⟨-, b2, hb2, hg2⟩ := g4 1 j2 hj2
    refine lv_astore hx hb dX30_act_309 hl (by decide) rfl (fun ls hl => ?_)
    replace hl : lv_has ls 12 [(4, .ref q_36), (6, .ref a1), (3, .ref ta2), (0, .ref pl)] := hl
    refine lv_aload_n hx hb dX30_act_311 rfl (lv_at hl 2 rfl) ?_
    refine va_getN (D := Z.1) (ci := 2) (v := .ref tq) (C := RX3) (T := TX3) (N := 7) hx hb hts in_X3 hown hE.1 (hM.at hc_55) 0 rfl mm_cX3 4 (by decide) (va_Nw.use rfl (hE.2.1 _ q295 rfl)) (fun _ h9 => h9) rfl dX30_act_312 ?_
    refine lv_iconst (v := 1) hx hb dX30_act_315 (by decide) ?_
    refine mm_aald (k := 1) hx hb hE hM 4 hc_56 rfl (by decide) (List.getElem?_eq_some_iff.mp hj2).1 (by omega) dX30_act_316 ?_
    rw [hg2]
    refine lv_astore_n hx hb dX30_act_317 rfl hl (by decide) rfl (fun ls hl => ?_)
    replace hl : lv_has ls 12 [(3, .ref b2), (4, .ref q_36), (6, .ref a1), (0, .ref pl)] := hl
    refine lv_goto (tgt := 600) hx hb dX30_act_318 (by decide) ?_
    refine lv_goto (tgt := 5) hx hb dX30_act_600 (by decide) ?_
    refine ih k (Nat.lt_succ_self k) _ _ _ _ _ _ ⟨j2, _, c1, b2, (some q_36), lv_sub hl [1, 0, 3] rfl, hc_54, by omega, by omega, hx4.trans e4_60, hb2, cr_env hc_53 (cr.mono (((mm_Kp.rf _).trans kz_47).trans kz_59) _ _ _ _ hw1) (cr.mono (mm_Exp.K e4_60 hc_4) _ _ _ _ hsc4), hpe5, by omega, ?_, ?_⟩ hM hS
    · (try dsimp only); omega
    · (try dsimp only); omega
  rw [if_neg hk5] at hpe4
  by_cases hk6 : r.1 = 6
  · skip
    rw [if_pos hk6] at hpe4
    rw [hk6]
    refine lv_tableIn (tgt := 545) (off := 532) hx hb dX30_act_13 (by decide) (by decide) (by decide) (by decide) ?_
    refine mm_new (D := Z.1) (ci := 30) (fs := mm_f0X36) (C := RX36) (T := TX36) (N := 1) hx hb hts in_X36 tyX36 tyX36_ok hown (hts _ q1920) (hts _ q1921) (hts _ q109) hE.1 hM hS hA mm_cX36 mm_dfX36 (by (try dsimp only); omega) (by (try dsimp only); omega) dX30_act_545 (fun q_9 H nq_8 hM hS => ?_)
    have hM : mm_P Z.1 mm_cl A (mm_U M_5 q_9 (.inr (30, [.null]))) H := hM
    have ne_10 : pl ≠ q_9 := (mm_neN hc_4 nq_8)
    have ne_11 : ta2 ≠ q_9 := (mm_neN ht_6 nq_8)
    have ne_12 : tq ≠ q_9 := (mm_neN ht_7 nq_8)
    have hc_13 : (mm_U M_5 q_9 (.inr (30, [.null]))) q_9 = some (.inr (30, [.null])) := mm_U_eq
    have hc_14 : (mm_U M_5 q_9 (.inr (30, [.null]))) pl = some (.inr (25, [.int (nI (n + 1))])) := (mm_U_ne ne_10).trans hc_4
    have hc_15 : (mm_U M_5 q_9 (.inr (30, [.null]))) ta2 = some (.inr (2, [.int (nI t'), .int r.1, .int r.2.1, .int r.2.2.1, .ref tq, .int (nI r.2.2.2.2), va_rf (F t')])) := (mm_U_ne ne_11).trans ht_6
    have hc_16 : (mm_U M_5 q_9 (.inr (30, [.null]))) tq = some (.inl (Z.2.1 4, r.2.2.2.1.length, .inr (.inr (.inr (.inr tg))))) := (mm_U_ne ne_12).trans ht_7
    obtain ⟨M_17, eM_17⟩ : ∃ z, z = mm_U M_5 q_9 (.inr (30, [.null])) := ⟨_, rfl⟩
    rw [← eM_17] at hM hc_14 hc_15 hc_16 hc_13
    have hz_18 : M_5 q_9 = none := mm_Exp.no (mm_Exp.rf pl M_5) hc_4 nq_8
    have e4_19 : mm_Exp pl M_5 M_17 := by rw [eM_17]; exact (mm_Exp.rf pl M_5).put hz_18
    refine lv_dup hx hb dX30_act_548 rfl ?_
    refine mm_callIN (As := []) (rest := [.ref q_9]) ⟨hx, hb, hml, hown, hts⟩ hE hST hA (c_X36_init l Z hc_13) ⟨va_cnB 0 hts (lw_meth q1924) rfl rfl rfl (hE.2.1 _ q1922 rfl) (hts _ q109) (by decide +kernel) ⟨(by (try dsimp only); omega), (by (try dsimp only); omega)⟩, rfl, hts _ q1923⟩ hM hS rfl hl.1 (Nat.le_of_ble_eq_true rfl) dX30_act_549 rfl ⟨(by (try dsimp only); omega), (by (try dsimp only); omega)⟩ (fun _ _ _ _ _ _ h9 => h9.elim) (fun v_20 M_21 H locs hp_22 hM hS => ?_)
    obtain ⟨q8, nq8, rfl, eM_21⟩ := hp_22
    rw [eM_21] at hM
    have hz8 : M_5 q8 = none := mm_Exp.no e4_19 hc_14 nq8
    have ne_23 : pl ≠ q8 := (mm_neN hc_14 nq8)
    have ne_24 : ta2 ≠ q8 := (mm_neN hc_15 nq8)
    have ne_25 : tq ≠ q8 := (mm_neN hc_16 nq8)
    have ne_26 : q_9 ≠ q8 := (mm_neN hc_13 nq8)
    have hc_27 : (mm_U M_17 q8 (.inl (Z.2.1 6, 10, .inr (.inr (.inr (.inr (fun _ => none))))))) q8 = some (.inl (Z.2.1 6, 10, .inr (.inr (.inr (.inr (fun _ => none)))))) := mm_U_eq
    have hc_28 : (mm_U M_17 q8 (.inl (Z.2.1 6, 10, .inr (.inr (.inr (.inr (fun _ => none))))))) pl = some (.inr (25, [.int (nI (n + 1))])) := (mm_U_ne ne_23).trans hc_14
    have hc_29 : (mm_U M_17 q8 (.inl (Z.2.1 6, 10, .inr (.inr (.inr (.inr (fun _ => none))))))) ta2 = some (.inr (2, [.int (nI t'), .int r.1, .int r.2.1, .int r.2.2.1, .ref tq, .int (nI r.2.2.2.2), va_rf (F t')])) := (mm_U_ne ne_24).trans hc_15
    have hc_30 : (mm_U M_17 q8 (.inl (Z.2.1 6, 10, .inr (.inr (.inr (.inr (fun _ => none))))))) tq = some (.inl (Z.2.1 4, r.2.2.2.1.length, .inr (.inr (.inr (.inr tg))))) := (mm_U_ne ne_25).trans hc_16
    have hc_31 : (mm_U M_17 q8 (.inl (Z.2.1 6, 10, .inr (.inr (.inr (.inr (fun _ => none))))))) q_9 = some (.inr (30, [.null])) := (mm_U_ne ne_26).trans hc_13
    obtain ⟨M_32, eM_32⟩ : ∃ z, z = mm_U M_17 q8 (.inl (Z.2.1 6, 10, .inr (.inr (.inr (.inr (fun _ => none)))))) := ⟨_, rfl⟩
    rw [← eM_32] at hM hc_28 hc_29 hc_30 hc_31 hc_27
    have e4_33 : mm_Exp pl M_5 M_32 := by rw [eM_32]; exact e4_19.put hz8
    have hc_34 : (mm_U M_32 q_9 (.inr (30, [.ref q8]))) q_9 = some (.inr (30, [.ref q8])) := mm_U_eq
    have hc_35 : (mm_U M_32 q_9 (.inr (30, [.ref q8]))) pl = some (.inr (25, [.int (nI (n + 1))])) := (mm_U_ne ne_10).trans hc_28
    have hc_36 : (mm_U M_32 q_9 (.inr (30, [.ref q8]))) ta2 = some (.inr (2, [.int (nI t'), .int r.1, .int r.2.1, .int r.2.2.1, .ref tq, .int (nI r.2.2.2.2), va_rf (F t')])) := (mm_U_ne ne_11).trans hc_29
    have hc_37 : (mm_U M_32 q_9 (.inr (30, [.ref q8]))) tq = some (.inl (Z.2.1 4, r.2.2.2.1.length, .inr (.inr (.inr (.inr tg))))) := (mm_U_ne ne_12).trans hc_30
    have hc_38 : (mm_U M_32 q_9 (.inr (30, [.ref q8]))) q8 = some (.inl (Z.2.1 6, 10, .inr (.inr (.inr (.inr (fun _ => none)))))) := (mm_U_ne (Ne.symm ne_26)).trans hc_27
    obtain ⟨M_39, eM_39⟩ : ∃ z, z = mm_U M_32 q_9 (.inr (30, [.ref q8])) := ⟨_, rfl⟩
    rw [← eM_39] at hM hc_35 hc_36 hc_37 hc_34 hc_38
    have e4_40 : mm_Exp pl M_5 M_39 := by rw [eM_39]; exact e4_33.put hz_18
    obtain rfl : res = some (rc_nil, n + 1) := (Option.some.inj hpe4).symm
    exact mm_reta hx hb hr (Or.inl ⟨_, rfl⟩) (Or.inr ⟨_, rfl⟩) hlk hM hS ⟨rc_nil, n + 1, q_9, rfl, rfl, cr_rec.2 ⟨q_9, q8, _, rfl, hc_34, hc_38, cr_nil Z _ ad T⟩, hc_35, hx4.trans e4_40⟩ dX30_act_552 (by (try dsimp only [us]); omega) (by (try dsimp only [us]); omega)
  rw [if_neg hk6] at hpe4
  by_cases hk7 : r.1 = 7
  · skip
    rw [if_pos hk7] at hpe4
    rw [hk7]
    refine lv_tableIn (tgt := 553) (off := 540) hx hb dX30_act_13 (by decide) (by decide) (by decide) (by decide) ?_
    obtain ⟨r1, hx1⟩ := pb_ne hpe4
    obtain ⟨j1, hj1, hr1⟩ := at_some hx1
    obtain ⟨-, b1, hb1, hg1⟩ := g4 0 j1 hj1
    have hro1 := us_pb (n0 := n0) hpe4 hx1 (mono_at (fun j => hmr _ _ _ (by omega))) (fun _ _ _ _ => (by repeat' (first | exact mono_none _ | exact mono_ret (by omega) | exact hmr _ _ _ (by omega) | exact mono_same (by omega) | exact mono_cas hmr (by omega) | (refine mono_app hmr (by omega) ?_) | (refine mono_pb ?_ (fun _ _ _ _ => ?_)) | (refine mono_at (fun _ => ?_)) | split))) (by omega) (by omega)
    refine lv_aload_n hx hb dX30_act_553 rfl (lv_at hl 2 rfl) ?_
    refine lv_aload_n hx hb dX30_act_554 rfl (lv_at hl 1 rfl) ?_
    refine va_getN (D := Z.1) (ci := 2) (v := .ref tq) (C := RX3) (T := TX3) (N := 7) hx hb hts in_X3 hown hE.1 (hM.at ht_6) 0 rfl mm_cX3 4 (by decide) (va_Nw.use rfl (hE.2.1 _ q295 rfl)) (fun _ h9 => h9) rfl dX30_act_555 ?_
    refine lv_iconst (v := 0) hx hb dX30_act_558 (by decide) ?_
    refine mm_aald (k := 0) hx hb hE hM 4 ht_7 rfl (by decide) (List.getElem?_eq_some_iff.mp hj1).1 (by omega) dX30_act_559 ?_
    rw [hg1]
    refine mm_aload hx hb dX30_act_560 (lv_at hl 0 rfl) ?_
    refine mm_callV (As := [.ref b1, va_rf sc']) (rest := []) ⟨hx, hb, hml, hown, hts⟩ hE hST hA (ihK k hkl j1 (en') (n + 1) r1 M_5 pl b1 (sc') (hz9.K ((hx4.trans (mm_Exp.rf pl M_5)).K hpl)) hc_4 (by omega) (((hx4.trans (mm_Exp.rf pl M_5)).K hpl).ct hT9) hb1 (cr.mono (mm_Exp.K (mm_Exp.rf pl M_5) hc_4) _ _ _ _ hsc4) hr1) (cwV 2 hts (lw_V q1856 q1801 q1802 q103 q1803) rfl rfl rfl (by decide +kernel) ⟨(by (try dsimp only); omega), (by (try dsimp only); omega)⟩) hM hS mm_cX30 hc_4 rfl hl.1 (Nat.le_of_ble_eq_true rfl) dX30_act_562 rfl ⟨(by (try dsimp only); omega), (by (try dsimp only); omega)⟩ ?_ (fun v_8 M_9 H locs hp_10 hM hS => ?_)
    · intro E ce q9 M9 H1 locs1 hp9 hM9 hS9 hce hcv hcl
      obtain ⟨rfl, rfl, h8, h7⟩ := hp9
      have hu9 : us (n + 1) (none : Option (ev × Nat)) = 1001 - (n + 1) := rfl
      exact mm_outx htab hlk hM9 hS9 hce hcv hcl ⟨hro1.2.1 rfl, rfl, h8, (hx4.trans (mm_Exp.rf pl M_5)).trans h7⟩ (by (try dsimp only); omega) (by (try dsimp only); omega)
    obtain ⟨w1, c1, a1, rfl, rfl, hw1, hp1, hxx1⟩ := hp_10
    obtain ⟨hpe1, hca1, hcb1⟩ := hro1.2.2 w1 c1 rfl
    have hu1 : us (n + 1) (some (w1, c1)) = c1 - (n + 1) := rfl
    have e41 := (mm_Exp.rf pl M_5).trans hxx1
    have ht_11 := (mm_Exp.K e41 hc_4).1 _ _ _ g2 ⟨by decide, by simp [mm_zs]⟩
    have ht_12 := (mm_Exp.K e41 hc_4).2 _ _ g3
    refine lv_astore hx hb dX30_act_565 hl (by decide) rfl (fun ls hl => ?_)
    replace hl : lv_has ls 12 [(11, .ref a1), (4, va_rf sc'), (3, .ref ta2), (0, .ref pl)] := hl
    refine lv_aload_n hx hb dX30_act_567 rfl (lv_at hl 2 rfl) ?_
    refine lv_aload hx hb dX30_act_568 (lv_at hl 0 rfl) ?_
    refine lv_aload_n hx hb dX30_act_570 rfl (lv_at hl 2 rfl) ?_
    refine va_getN (D := Z.1) (ci := 2) (v := .int r.1) (C := RX3) (T := TX3) (N := 7) hx hb hts in_X3 hown hE.1 (hM.at ht_11) 0 rfl mm_cX3 1 (by decide) (va_Nw.use rfl (hE.2.1 _ q286 rfl)) (fun _ h9 => h9) rfl dX30_act_571 ?_
    refine lv_bipush (v := 7) hx hb dX30_act_574 (by decide) ?_
    refine lv_icmp_ne (tgt := 594) hx hb dX30_act_576 (by decide) (fun h9 => absurd hk7 h9) (fun _ => ?_)
    obtain ⟨r2, hx2⟩ := pb_ne hpe1
    obtain ⟨j2, hj2, hr2⟩ := at_some hx2
    obtain ⟨-, b2, hb2, hg2⟩ := g4 1 j2 hj2
    have hro2 := us_pb (n0 := n0) hpe1 hx2 (mono_at (fun j => hmr _ _ _ (by omega))) (fun _ _ _ _ => (by repeat' (first | exact mono_none _ | exact mono_ret (by omega) | exact hmr _ _ _ (by omega) | exact mono_same (by omega) | exact mono_cas hmr (by omega) | (refine mono_app hmr (by omega) ?_) | (refine mono_pb ?_ (fun _ _ _ _ => ?_)) | (refine mono_at (fun _ => ?_)) | split))) (by omega) (by omega)
    refine lv_aload_n hx hb dX30_act_579 rfl (lv_at hl 3 rfl) ?_
    refine lv_aload_n hx hb dX30_act_580 rfl (lv_at hl 2 rfl) ?_
    refine va_getN (D := Z.1) (ci := 2) (v := .ref tq) (C := RX3) (T := TX3) (N := 7) hx hb hts in_X3 hown hE.1 (hM.at ht_11) 0 rfl mm_cX3 4 (by decide) (va_Nw.use rfl (hE.2.1 _ q295 rfl)) (fun _ h9 => h9) rfl dX30_act_581 ?_
    refine lv_iconst (v := 1) hx hb dX30_act_584 (by decide) ?_
    refine mm_aald (k := 1) hx hb hE hM 4 ht_12 rfl (by decide) (List.getElem?_eq_some_iff.mp hj2).1 (by omega) dX30_act_585 ?_
    rw [hg2]
    refine mm_aload hx hb dX30_act_586 (lv_at hl 1 rfl) ?_
    refine mm_callV (As := [.ref b2, va_rf sc']) (rest := [.ref a1, .ref ta2]) ⟨hx, hb, hml, hown, hts⟩ hE hST hA (ihK k hkl j2 (en') (c1) r2 M_9 pl b2 (sc') (hz9.K ((hx4.trans e41).K hpl)) hp1 (by omega) (((hx4.trans e41).K hpl).ct hT9) hb2 (cr.mono (mm_Exp.K e41 hc_4) _ _ _ _ hsc4) hr2) (cwV 2 hts (lw_V q1856 q1801 q1802 q103 q1803) rfl rfl rfl (by decide +kernel) ⟨(by (try dsimp only); omega), (by (try dsimp only); omega)⟩) hM hS mm_cX30 hp1 rfl hl.1 (Nat.le_of_ble_eq_true rfl) dX30_act_588 rfl ⟨(by (try dsimp only); omega), (by (try dsimp only); omega)⟩ ?_ (fun v_13 M_14 H locs hp_15 hM hS => ?_)
    · intro E ce q9 M9 H1 locs1 hp9 hM9 hS9 hce hcv hcl
      obtain ⟨rfl, rfl, h8, h7⟩ := hp9
      have hu9 : us c1 (none : Option (ev × Nat)) = 1001 - c1 := rfl
      exact mm_outx htab hlk hM9 hS9 hce hcv hcl ⟨hro2.2.1 rfl, rfl, h8, (hx4.trans e41).trans h7⟩ (by (try dsimp only); omega) (by (try dsimp only); omega)
    obtain ⟨w2, c2, a2, rfl, rfl, hw2, hp2, hxx2⟩ := hp_15
    obtain ⟨hpe2, hca2, hcb2⟩ := hro2.2.2 w2 c2 rfl
    have hu2 : us c1 (some (w2, c2)) = c2 - c1 := rfl
    have e42 := e41.trans hxx2
    have ht_16 := (mm_Exp.K e42 hc_4).1 _ _ _ g2 ⟨by decide, by simp [mm_zs]⟩
    have ht_17 := (mm_Exp.K e42 hc_4).2 _ _ g3
    refine lv_goto (tgt := 596) hx hb dX30_act_591 (by decide) ?_
    obtain ⟨w9, hset9, hpe9'⟩ : ∃ w9, rc_set w2 (nN r.2.1) w1 = some w9 ∧ some (some (w9, c2)) = some res := by
      (try dsimp only at hpe2)
      cases h9 : rc_set w2 (nN r.2.1) w1 with
      | none => rw [h9] at hpe2; cases hpe2
      | some w9 => rw [h9] at hpe2; exact ⟨w9, rfl, hpe2⟩
    refine mm_callS (As := [.ref ta2, .ref a1, .ref a2]) (rest := []) ⟨hx, hb, hml, hown, hts⟩ hE hST hA (c_X30_rowOf_with l Z ht_16 hk7 (nI_nN _).symm hw2 hset9 hw1.nabs (cr.mono ((mm_Kp.rf _).trans (mm_Exp.K hxx2 hp1)) _ _ _ _ hw1)) (va_cwS 3 hts (lw_S q1933 q1934 q103 q1935) rfl rfl rfl (by decide +kernel) ⟨(by (try dsimp only); omega), (by (try dsimp only); omega)⟩) hM hS rfl hl.1 (Nat.le_of_ble_eq_true rfl) dX30_act_596 rfl ⟨(by (try dsimp only); omega), (by (try dsimp only); omega)⟩ (fun _ _ _ _ _ _ h9 => h9.elim) (fun v_18 M_19 H locs hp_20 hM hS => ?_)
    obtain ⟨⟨b9, rfl, hc9⟩, hex9⟩ := hp_20
    have e4z := e42.trans hex9.Exp
    have hp_21 := hex9.at hp2
    obtain rfl : res = some (w9, c2) := (Option.some.inj hpe9').symm
    exact mm_reta hx hb hr (Or.inl ⟨_, rfl⟩) (Or.inr ⟨_, rfl⟩) hlk hM hS ⟨w9, c2, b9, rfl, rfl, hc9, hp_21, hx4.trans e4z⟩ dX30_act_599 (by (try dsimp only [us]); omega) (by (try dsimp only [us]); omega)
  rw [if_neg hk7] at hpe4
  by_cases hk8 : r.1 = 8
  · skip
    rw [if_pos hk8] at hpe4
    rw [hk8]
    refine lv_tableIn (tgt := 553) (off := 540) hx hb dX30_act_13 (by decide) (by decide) (by decide) (by decide) ?_
    obtain ⟨r1, hx1⟩ := pb_ne hpe4
    obtain ⟨j1, hj1, hr1⟩ := at_some hx1
    obtain ⟨-, b1, hb1, hg1⟩ := g4 0 j1 hj1
    have hro1 := us_pb (n0 := n0) hpe4 hx1 (mono_at (fun j => hmr _ _ _ (by omega))) (fun _ _ _ _ => (by repeat' (first | exact mono_none _ | exact mono_ret (by omega) | exact hmr _ _ _ (by omega) | exact mono_same (by omega) | exact mono_cas hmr (by omega) | (refine mono_app hmr (by omega) ?_) | (refine mono_pb ?_ (fun _ _ _ _ => ?_)) | (refine mono_at (fun _ => ?_)) | split))) (by omega) (by omega)
    refine lv_aload_n hx hb dX30_act_553 rfl (lv_at hl 2 rfl) ?_
    refine lv_aload_n hx hb dX30_act_554 rfl (lv_at hl 1 rfl) ?_
    refine va_getN (D := Z.1) (ci := 2) (v := .ref tq) (C := RX3) (T := TX3) (N := 7) hx hb hts in_X3 hown hE.1 (hM.at ht_6) 0 rfl mm_cX3 4 (by decide) (va_Nw.use rfl (hE.2.1 _ q295 rfl)) (fun _ h9 => h9) rfl dX30_act_555 ?_
    refine lv_iconst (v := 0) hx hb dX30_act_558 (by decide) ?_
    refine mm_aald (k := 0) hx hb hE hM 4 ht_7 rfl (by decide) (List.getElem?_eq_some_iff.mp hj1).1 (by omega) dX30_act_559 ?_
    rw [hg1]
    refine mm_aload hx hb dX30_act_560 (lv_at hl 0 rfl) ?_
    refine mm_callV (As := [.ref b1, va_rf sc']) (rest := []) ⟨hx, hb, hml, hown, hts⟩ hE hST hA (ihK k hkl j1 (en') (n + 1) r1 M_5 pl b1 (sc') (hz9.K ((hx4.trans (mm_Exp.rf pl M_5)).K hpl)) hc_4 (by omega) (((hx4.trans (mm_Exp.rf pl M_5)).K hpl).ct hT9) hb1 (cr.mono (mm_Exp.K (mm_Exp.rf pl M_5) hc_4) _ _ _ _ hsc4) hr1) (cwV 2 hts (lw_V q1856 q1801 q1802 q103 q1803) rfl rfl rfl (by decide +kernel) ⟨(by (try dsimp only); omega), (by (try dsimp only); omega)⟩) hM hS mm_cX30 hc_4 rfl hl.1 (Nat.le_of_ble_eq_true rfl) dX30_act_562 rfl ⟨(by (try dsimp only); omega), (by (try dsimp only); omega)⟩ ?_ (fun v_8 M_9 H locs hp_10 hM hS => ?_)
    · intro E ce q9 M9 H1 locs1 hp9 hM9 hS9 hce hcv hcl
      obtain ⟨rfl, rfl, h8, h7⟩ := hp9
      have hu9 : us (n + 1) (none : Option (ev × Nat)) = 1001 - (n + 1) := rfl
      exact mm_outx htab hlk hM9 hS9 hce hcv hcl ⟨hro1.2.1 rfl, rfl, h8, (hx4.trans (mm_Exp.rf pl M_5)).trans h7⟩ (by (try dsimp only); omega) (by (try dsimp only); omega)
    obtain ⟨w1, c1, a1, rfl, rfl, hw1, hp1, hxx1⟩ := hp_10
    obtain ⟨hpe1, hca1, hcb1⟩ := hro1.2.2 w1 c1 rfl
    have hu1 : us (n + 1) (some (w1, c1)) = c1 - (n + 1) := rfl
    have e41 := (mm_Exp.rf pl M_5).trans hxx1
    have ht_11 := (mm_Exp.K e41 hc_4).1 _ _ _ g2 ⟨by decide, by simp [mm_zs]⟩
    have ht_12 := (mm_Exp.K e41 hc_4).2 _ _ g3
    refine lv_astore hx hb dX30_act_565 hl (by decide) rfl (fun ls hl => ?_)
    replace hl : lv_has ls 12 [(11, .ref a1), (4, va_rf sc'), (3, .ref ta2), (0, .ref pl)] := hl
    refine lv_aload_n hx hb dX30_act_567 rfl (lv_at hl 2 rfl) ?_
    refine lv_aload hx hb dX30_act_568 (lv_at hl 0 rfl) ?_
    refine lv_aload_n hx hb dX30_act_570 rfl (lv_at hl 2 rfl) ?_
    refine va_getN (D := Z.1) (ci := 2) (v := .int r.1) (C := RX3) (T := TX3) (N := 7) hx hb hts in_X3 hown hE.1 (hM.at ht_11) 0 rfl mm_cX3 1 (by decide) (va_Nw.use rfl (hE.2.1 _ q286 rfl)) (fun _ h9 => h9) rfl dX30_act_571 ?_
    refine lv_bipush (v := 7) hx hb dX30_act_574 (by decide) ?_
    refine lv_icmp_ne (tgt := 594) hx hb dX30_act_576 (by decide) (fun _ => ?_) (fun h9 => absurd h9 (by rw [hk8]; decide))
    refine lv_aload hx hb dX30_act_594 (lv_at hl 0 rfl) ?_
    obtain ⟨w9, hget9, hna9, hpe9'⟩ : ∃ w9, rc_get w1 (nN r.2.1) = some w9 ∧ ev_abs w9 = false ∧ some (some (w9, c1)) = some res := by
      (try dsimp only at hpe1)
      cases h9 : rc_get w1 (nN r.2.1) with
      | none => rw [h9] at hpe1; cases hpe1
      | some w9 =>
        rw [h9] at hpe1; (try dsimp only at hpe1)
        by_cases h8 : ev_abs w9 = true
        · rw [if_pos h8] at hpe1; cases hpe1
        · rw [if_neg h8] at hpe1; exact ⟨w9, rfl, by simpa using h8, hpe1⟩
    refine mm_callS (As := [.ref ta2, .ref a1, .ref a1]) (rest := []) ⟨hx, hb, hml, hown, hts⟩ hE hST hA (c_X30_rowOf_of l Z ht_11 (fst := some a1) hk8 (nI_nN _).symm hw1 hget9 hna9) (va_cwS 3 hts (lw_S q1933 q1934 q103 q1935) rfl rfl rfl (by decide +kernel) ⟨(by (try dsimp only); omega), (by (try dsimp only); omega)⟩) hM hS rfl hl.1 (Nat.le_of_ble_eq_true rfl) dX30_act_596 rfl ⟨(by (try dsimp only); omega), (by (try dsimp only); omega)⟩ (fun _ _ _ _ _ _ h9 => h9.elim) (fun v_13 M_14 H locs hp_15 hM hS => ?_)
    obtain ⟨⟨b9, rfl, hc9⟩, eM_14⟩ := hp_15
    have hex9 : mm_Ext M_9 M_14 := by rw [eM_14]; exact mm_Ext.rf _
    rw [← eM_14] at hc9
    have e4z := e41.trans hex9.Exp
    have hp_16 := hex9.at hp1
    obtain rfl : res = some (w9, c1) := (Option.some.inj hpe9').symm
    exact mm_reta hx hb hr (Or.inl ⟨_, rfl⟩) (Or.inr ⟨_, rfl⟩) hlk hM hS ⟨w9, c1, b9, rfl, rfl, hc9, hp_16, hx4.trans e4z⟩ dX30_act_599 (by (try dsimp only [us]); omega) (by (try dsimp only [us]); omega)
  rw [if_neg hk8] at hpe4
  by_cases hk9 : r.1 = 9
  · skip
    rw [if_pos hk9] at hpe4
    rw [hk9]
    refine lv_tableIn (tgt := 553) (off := 540) hx hb dX30_act_13 (by decide) (by decide) (by decide) (by decide) ?_
    obtain ⟨r1, hx1⟩ := pb_ne hpe4
    obtain ⟨j1, hj1, hr1⟩ := at_some hx1
    obtain ⟨-, b1, hb1, hg1⟩ := g4 0 j1 hj1
    have hro1 := us_pb (n0 := n0) hpe4 hx1 (mono_at (fun j => hmr _ _ _ (by omega))) (fun _ _ _ _ => (by repeat' (first | exact mono_none _ | exact mono_ret (by omega) | exact hmr _ _ _ (by omega) | exact mono_same (by omega) | exact mono_cas hmr (by omega) | (refine mono_app hmr (by omega) ?_) | (refine mono_pb ?_ (fun _ _ _ _ => ?_)) | (refine mono_at (fun _ => ?_)) | split))) (by omega) (by omega)
    refine lv_aload_n hx hb dX30_act_553 rfl (lv_at hl 2 rfl) ?_
    refine lv_aload_n hx hb dX30_act_554 rfl (lv_at hl 1 rfl) ?_
    refine va_getN (D := Z.1) (ci := 2) (v := .ref tq) (C := RX3) (T := TX3) (N := 7) hx hb hts in_X3 hown hE.1 (hM.at ht_6) 0 rfl mm_cX3 4 (by decide) (va_Nw.use rfl (hE.2.1 _ q295 rfl)) (fun _ h9 => h9) rfl dX30_act_555 ?_
    refine lv_iconst (v := 0) hx hb dX30_act_558 (by decide) ?_
    refine mm_aald (k := 0) hx hb hE hM 4 ht_7 rfl (by decide) (List.getElem?_eq_some_iff.mp hj1).1 (by omega) dX30_act_559 ?_
    rw [hg1]
    refine mm_aload hx hb dX30_act_560 (lv_at hl 0 rfl) ?_
    refine mm_callV (As := [.ref b1, va_rf sc']) (rest := []) ⟨hx, hb, hml, hown, hts⟩ hE hST hA (ihK k hkl j1 (en') (n + 1) r1 M_5 pl b1 (sc') (hz9.K ((hx4.trans (mm_Exp.rf pl M_5)).K hpl)) hc_4 (by omega) (((hx4.trans (mm_Exp.rf pl M_5)).K hpl).ct hT9) hb1 (cr.mono (mm_Exp.K (mm_Exp.rf pl M_5) hc_4) _ _ _ _ hsc4) hr1) (cwV 2 hts (lw_V q1856 q1801 q1802 q103 q1803) rfl rfl rfl (by decide +kernel) ⟨(by (try dsimp only); omega), (by (try dsimp only); omega)⟩) hM hS mm_cX30 hc_4 rfl hl.1 (Nat.le_of_ble_eq_true rfl) dX30_act_562 rfl ⟨(by (try dsimp only); omega), (by (try dsimp only); omega)⟩ ?_ (fun v_8 M_9 H locs hp_10 hM hS => ?_)
    · intro E ce q9 M9 H1 locs1 hp9 hM9 hS9 hce hcv hcl
      obtain ⟨rfl, rfl, h8, h7⟩ := hp9
      have hu9 : us (n + 1) (none : Option (ev × Nat)) = 1001 - (n + 1) := rfl
      exact mm_outx htab hlk hM9 hS9 hce hcv hcl ⟨hro1.2.1 rfl, rfl, h8, (hx4.trans (mm_Exp.rf pl M_5)).trans h7⟩ (by (try dsimp only); omega) (by (try dsimp only); omega)
    obtain ⟨w1, c1, a1, rfl, rfl, hw1, hp1, hxx1⟩ := hp_10
    obtain ⟨hpe1, hca1, hcb1⟩ := hro1.2.2 w1 c1 rfl
    have hu1 : us (n + 1) (some (w1, c1)) = c1 - (n + 1) := rfl
    have e41 := (mm_Exp.rf pl M_5).trans hxx1
    have ht_11 := (mm_Exp.K e41 hc_4).1 _ _ _ g2 ⟨by decide, by simp [mm_zs]⟩
    have ht_12 := (mm_Exp.K e41 hc_4).2 _ _ g3
    refine lv_astore hx hb dX30_act_565 hl (by decide) rfl (fun ls hl => ?_)
    replace hl : lv_has ls 12 [(11, .ref a1), (4, va_rf sc'), (3, .ref ta2), (0, .ref pl)] := hl
    refine lv_aload_n hx hb dX30_act_567 rfl (lv_at hl 2 rfl) ?_
    refine lv_aload hx hb dX30_act_568 (lv_at hl 0 rfl) ?_
    refine lv_aload_n hx hb dX30_act_570 rfl (lv_at hl 2 rfl) ?_
    refine va_getN (D := Z.1) (ci := 2) (v := .int r.1) (C := RX3) (T := TX3) (N := 7) hx hb hts in_X3 hown hE.1 (hM.at ht_11) 0 rfl mm_cX3 1 (by decide) (va_Nw.use rfl (hE.2.1 _ q286 rfl)) (fun _ h9 => h9) rfl dX30_act_571 ?_
    refine lv_bipush (v := 7) hx hb dX30_act_574 (by decide) ?_
    refine lv_icmp_ne (tgt := 594) hx hb dX30_act_576 (by decide) (fun _ => ?_) (fun h9 => absurd h9 (by rw [hk9]; decide))
    refine lv_aload hx hb dX30_act_594 (lv_at hl 0 rfl) ?_
    obtain ⟨w9, hset9, hpe9'⟩ : ∃ w9, rc_set w1 (nN r.2.1) (.var 1) = some w9 ∧ some (some (w9, c1)) = some res := by
      (try dsimp only at hpe1)
      cases h9 : rc_set w1 (nN r.2.1) (.var 1) with
      | none => rw [h9] at hpe1; cases hpe1
      | some w9 => rw [h9] at hpe1; exact ⟨w9, rfl, hpe1⟩
    refine mm_callS (As := [.ref ta2, .ref a1, .ref a1]) (rest := []) ⟨hx, hb, hml, hown, hts⟩ hE hST hA (c_X30_rowOf_without l Z ht_11 (fst := some a1) hk9 (nI_nN _).symm hw1 hset9) (va_cwS 3 hts (lw_S q1933 q1934 q103 q1935) rfl rfl rfl (by decide +kernel) ⟨(by (try dsimp only); omega), (by (try dsimp only); omega)⟩) hM hS rfl hl.1 (Nat.le_of_ble_eq_true rfl) dX30_act_596 rfl ⟨(by (try dsimp only); omega), (by (try dsimp only); omega)⟩ (fun _ _ _ _ _ _ h9 => h9.elim) (fun v_13 M_14 H locs hp_15 hM hS => ?_)
    obtain ⟨⟨b9, rfl, hc9⟩, hex9⟩ := hp_15
    have e4z := e41.trans hex9.Exp
    have hp_16 := hex9.at hp1
    obtain rfl : res = some (w9, c1) := (Option.some.inj hpe9').symm
    exact mm_reta hx hb hr (Or.inl ⟨_, rfl⟩) (Or.inr ⟨_, rfl⟩) hlk hM hS ⟨w9, c1, b9, rfl, rfl, hc9, hp_16, hx4.trans e4z⟩ dX30_act_599 (by (try dsimp only [us]); omega) (by (try dsimp only [us]); omega)
  rw [if_neg hk9] at hpe4
  by_cases hk10 : r.1 = 10
  · skip
    rw [if_pos hk10] at hpe4
    rw [hk10]
    refine lv_tableIn (tgt := 553) (off := 540) hx hb dX30_act_13 (by decide) (by decide) (by decide) (by decide) ?_
    obtain ⟨r1, hx1⟩ := pb_ne hpe4
    obtain ⟨j1, hj1, hr1⟩ := at_some hx1
    obtain ⟨-, b1, hb1, hg1⟩ := g4 0 j1 hj1
    have hro1 := us_pb (n0 := n0) hpe4 hx1 (mono_at (fun j => hmr _ _ _ (by omega))) (fun _ _ _ _ => (by repeat' (first | exact mono_none _ | exact mono_ret (by omega) | exact hmr _ _ _ (by omega) | exact mono_same (by omega) | exact mono_cas hmr (by omega) | (refine mono_app hmr (by omega) ?_) | (refine mono_pb ?_ (fun _ _ _ _ => ?_)) | (refine mono_at (fun _ => ?_)) | split))) (by omega) (by omega)
    refine lv_aload_n hx hb dX30_act_553 rfl (lv_at hl 2 rfl) ?_
    refine lv_aload_n hx hb dX30_act_554 rfl (lv_at hl 1 rfl) ?_
    refine va_getN (D := Z.1) (ci := 2) (v := .ref tq) (C := RX3) (T := TX3) (N := 7) hx hb hts in_X3 hown hE.1 (hM.at ht_6) 0 rfl mm_cX3 4 (by decide) (va_Nw.use rfl (hE.2.1 _ q295 rfl)) (fun _ h9 => h9) rfl dX30_act_555 ?_
    refine lv_iconst (v := 0) hx hb dX30_act_558 (by decide) ?_
    refine mm_aald (k := 0) hx hb hE hM 4 ht_7 rfl (by decide) (List.getElem?_eq_some_iff.mp hj1).1 (by omega) dX30_act_559 ?_
    rw [hg1]
    refine mm_aload hx hb dX30_act_560 (lv_at hl 0 rfl) ?_
    refine mm_callV (As := [.ref b1, va_rf sc']) (rest := []) ⟨hx, hb, hml, hown, hts⟩ hE hST hA (ihK k hkl j1 (en') (n + 1) r1 M_5 pl b1 (sc') (hz9.K ((hx4.trans (mm_Exp.rf pl M_5)).K hpl)) hc_4 (by omega) (((hx4.trans (mm_Exp.rf pl M_5)).K hpl).ct hT9) hb1 (cr.mono (mm_Exp.K (mm_Exp.rf pl M_5) hc_4) _ _ _ _ hsc4) hr1) (cwV 2 hts (lw_V q1856 q1801 q1802 q103 q1803) rfl rfl rfl (by decide +kernel) ⟨(by (try dsimp only); omega), (by (try dsimp only); omega)⟩) hM hS mm_cX30 hc_4 rfl hl.1 (Nat.le_of_ble_eq_true rfl) dX30_act_562 rfl ⟨(by (try dsimp only); omega), (by (try dsimp only); omega)⟩ ?_ (fun v_8 M_9 H locs hp_10 hM hS => ?_)
    · intro E ce q9 M9 H1 locs1 hp9 hM9 hS9 hce hcv hcl
      obtain ⟨rfl, rfl, h8, h7⟩ := hp9
      have hu9 : us (n + 1) (none : Option (ev × Nat)) = 1001 - (n + 1) := rfl
      exact mm_outx htab hlk hM9 hS9 hce hcv hcl ⟨hro1.2.1 rfl, rfl, h8, (hx4.trans (mm_Exp.rf pl M_5)).trans h7⟩ (by (try dsimp only); omega) (by (try dsimp only); omega)
    obtain ⟨w1, c1, a1, rfl, rfl, hw1, hp1, hxx1⟩ := hp_10
    obtain ⟨hpe1, hca1, hcb1⟩ := hro1.2.2 w1 c1 rfl
    have hu1 : us (n + 1) (some (w1, c1)) = c1 - (n + 1) := rfl
    have e41 := (mm_Exp.rf pl M_5).trans hxx1
    have ht_11 := (mm_Exp.K e41 hc_4).1 _ _ _ g2 ⟨by decide, by simp [mm_zs]⟩
    have ht_12 := (mm_Exp.K e41 hc_4).2 _ _ g3
    refine lv_astore hx hb dX30_act_565 hl (by decide) rfl (fun ls hl => ?_)
    replace hl : lv_has ls 12 [(11, .ref a1), (4, va_rf sc'), (3, .ref ta2), (0, .ref pl)] := hl
    refine lv_aload_n hx hb dX30_act_567 rfl (lv_at hl 2 rfl) ?_
    refine lv_aload hx hb dX30_act_568 (lv_at hl 0 rfl) ?_
    refine lv_aload_n hx hb dX30_act_570 rfl (lv_at hl 2 rfl) ?_
    refine va_getN (D := Z.1) (ci := 2) (v := .int r.1) (C := RX3) (T := TX3) (N := 7) hx hb hts in_X3 hown hE.1 (hM.at ht_11) 0 rfl mm_cX3 1 (by decide) (va_Nw.use rfl (hE.2.1 _ q286 rfl)) (fun _ h9 => h9) rfl dX30_act_571 ?_
    refine lv_bipush (v := 7) hx hb dX30_act_574 (by decide) ?_
    refine lv_icmp_ne (tgt := 594) hx hb dX30_act_576 (by decide) (fun _ => ?_) (fun h9 => absurd h9 (by rw [hk10]; decide))
    refine lv_aload hx hb dX30_act_594 (lv_at hl 0 rfl) ?_
    have hpe9' := hpe1
    refine mm_callS (As := [.ref ta2, .ref a1, .ref a1]) (rest := []) ⟨hx, hb, hml, hown, hts⟩ hE hST hA (c_X30_rowOf_as l Z ht_11 (sd := some a1) hk10) (va_cwS 3 hts (lw_S q1933 q1934 q103 q1935) rfl rfl rfl (by decide +kernel) ⟨(by (try dsimp only); omega), (by (try dsimp only); omega)⟩) hM hS rfl hl.1 (Nat.le_of_ble_eq_true rfl) dX30_act_596 rfl ⟨(by (try dsimp only); omega), (by (try dsimp only); omega)⟩ (fun _ _ _ _ _ _ h9 => h9.elim) (fun v_13 M_14 H locs hp_15 hM hS => ?_)
    obtain ⟨b9, nb9, rfl, eM_14⟩ := hp_15
    have hex9 : mm_Ext M_9 M_14 := by rw [eM_14]; exact mm_Ext.U nb9
    have hc9 : cr Z M_14 ad T (.pow w1 (nN r.2.1)) 0 (fun _ => none) (some b9) := by simp only [cr, nI_nN]; exact ⟨b9, a1, rfl, by rw [eM_14]; exact mm_U_eq, cr.mono hex9.K _ _ _ _ hw1⟩
    have e4z := e41.trans hex9.Exp
    have hp_16 := hex9.at hp1
    obtain rfl : res = some (.pow w1 (nN r.2.1), c1) := (Option.some.inj hpe9').symm
    exact mm_reta hx hb hr (Or.inl ⟨_, rfl⟩) (Or.inr ⟨_, rfl⟩) hlk hM hS ⟨.pow w1 (nN r.2.1), c1, b9, rfl, rfl, hc9, hp_16, hx4.trans e4z⟩ dX30_act_599 (by (try dsimp only [us]); omega) (by (try dsimp only [us]); omega)
  rw [if_neg hk10] at hpe4
  by_cases hk11 : r.1 = 11
  · skip
    rw [if_pos hk11] at hpe4
    rw [hk11]
    refine lv_tableIn (tgt := 321) (off := 308) hx hb dX30_act_13 (by decide) (by decide) (by decide) (by decide) ?_
    obtain ⟨r1, hx1⟩ := pb_ne hpe4
    obtain ⟨j1, hj1, hr1⟩ := at_some hx1
    obtain ⟨-, b1, hb1, hg1⟩ := g4 0 j1 hj1
    have hro1 := us_pb (n0 := n0) hpe4 hx1 (mono_at (fun j => hmr _ _ _ (by omega))) (fun _ _ _ _ => (by repeat' (first | exact mono_none _ | exact mono_ret (by omega) | exact hmr _ _ _ (by omega) | exact mono_same (by omega) | exact mono_cas hmr (by omega) | (refine mono_app hmr (by omega) ?_) | (refine mono_pb ?_ (fun _ _ _ _ => ?_)) | (refine mono_at (fun _ => ?_)) | split))) (by omega) (by omega)
    refine lv_aload_n hx hb dX30_act_321 rfl (lv_at hl 2 rfl) ?_
    refine lv_aload_n hx hb dX30_act_322 rfl (lv_at hl 1 rfl) ?_
    refine va_getN (D := Z.1) (ci := 2) (v := .ref tq) (C := RX3) (T := TX3) (N := 7) hx hb hts in_X3 hown hE.1 (hM.at ht_6) 0 rfl mm_cX3 4 (by decide) (va_Nw.use rfl (hE.2.1 _ q295 rfl)) (fun _ h9 => h9) rfl dX30_act_323 ?_
    refine lv_iconst (v := 0) hx hb dX30_act_326 (by decide) ?_
    refine mm_aald (k := 0) hx hb hE hM 4 ht_7 rfl (by decide) (List.getElem?_eq_some_iff.mp hj1).1 (by omega) dX30_act_327 ?_
    rw [hg1]
    refine mm_aload hx hb dX30_act_328 (lv_at hl 0 rfl) ?_
    refine mm_callV (As := [.ref b1, va_rf sc']) (rest := []) ⟨hx, hb, hml, hown, hts⟩ hE hST hA (ihK k hkl j1 (en') (n + 1) r1 M_5 pl b1 (sc') (hz9.K ((hx4.trans (mm_Exp.rf pl M_5)).K hpl)) hc_4 (by omega) (((hx4.trans (mm_Exp.rf pl M_5)).K hpl).ct hT9) hb1 (cr.mono (mm_Exp.K (mm_Exp.rf pl M_5) hc_4) _ _ _ _ hsc4) hr1) (cwV 2 hts (lw_V q1856 q1801 q1802 q103 q1803) rfl rfl rfl (by decide +kernel) ⟨(by (try dsimp only); omega), (by (try dsimp only); omega)⟩) hM hS mm_cX30 hc_4 rfl hl.1 (Nat.le_of_ble_eq_true rfl) dX30_act_330 rfl ⟨(by (try dsimp only); omega), (by (try dsimp only); omega)⟩ ?_ (fun v_8 M_9 H locs hp_10 hM hS => ?_)
    · intro E ce q9 M9 H1 locs1 hp9 hM9 hS9 hce hcv hcl
      obtain ⟨rfl, rfl, h8, h7⟩ := hp9
      have hu9 : us (n + 1) (none : Option (ev × Nat)) = 1001 - (n + 1) := rfl
      exact mm_outx htab hlk hM9 hS9 hce hcv hcl ⟨hro1.2.1 rfl, rfl, h8, (hx4.trans (mm_Exp.rf pl M_5)).trans h7⟩ (by (try dsimp only); omega) (by (try dsimp only); omega)
    obtain ⟨w1, c1, a1, rfl, rfl, hw1, hp1, hxx1⟩ := hp_10
    obtain ⟨hpe1, hca1, hcb1⟩ := hro1.2.2 w1 c1 rfl
    have hu1 : us (n + 1) (some (w1, c1)) = c1 - (n + 1) := rfl
    have e41 := (mm_Exp.rf pl M_5).trans hxx1
    have ht_11 := (mm_Exp.K e41 hc_4).1 _ _ _ g2 ⟨by decide, by simp [mm_zs]⟩
    have ht_12 := (mm_Exp.K e41 hc_4).2 _ _ g3
    obtain ⟨j2, hj2, hpe5⟩ := at_some hpe1
    obtain ⟨-, b2, hb2, hg2⟩ := g4 1 j2 hj2
    obtain ⟨u1, l1, t3, r3, j3, rfl, hcs, hr3, hj3, hpe6⟩ := cas_some hpe5
    have hw1' := hw1
    simp only [cr] at hw1
    obtain ⟨a9, va1, e9, hch, hva1⟩ := hw1
    cases e9
    refine va_castS hx hb hown (hts _ q1880) (hE.1.1 31 _ mm_cX37).2 (mm_recv hE hM mm_cX37 hch) dX30_act_333 ?_
    refine lv_astore hx hb dX30_act_336 hl (by decide) rfl (fun ls hl => ?_)
    replace hl : lv_has ls 12 [(7, .ref a1), (4, va_rf sc'), (3, .ref ta2), (0, .ref pl)] := hl
    refine lv_aload hx hb dX30_act_338 (lv_at hl 0 rfl) ?_
    refine va_getN (D := Z.1) (ci := 31) (v := .int (nI l1)) (C := RX37) (T := TX37) (N := 2) hx hb hts in_X37 hown hE.1 (hM.at hch) 0 rfl mm_cX37 0 (by decide) (va_Nw.use rfl (hE.2.1 _ q1942 rfl)) (fun _ h9 => h9) rfl dX30_act_340 ?_
    refine lv_aload_n hx hb dX30_act_343 rfl (lv_at hl 2 rfl) ?_
    refine va_getN (D := Z.1) (ci := 2) (v := .ref tq) (C := RX3) (T := TX3) (N := 7) hx hb hts in_X3 hown hE.1 (hM.at ht_11) 0 rfl mm_cX3 4 (by decide) (va_Nw.use rfl (hE.2.1 _ q295 rfl)) (fun _ h9 => h9) rfl dX30_act_344 ?_
    refine lv_iconst (v := 1) hx hb dX30_act_347 (by decide) ?_
    refine mm_aald (k := 1) hx hb hE hM 4 ht_12 rfl (by decide) (List.getElem?_eq_some_iff.mp hj2).1 (by omega) dX30_act_348 ?_
    rw [hg2]
    refine mm_callS (As := [.int (nI l1), .ref b2]) (rest := []) ⟨hx, hb, hml, hown, hts⟩ hE hST hA (c_X30_caseOf l Z (((hx4.trans e41).K hpl).ct hT9) hb2 hcs) (va_cwS 2 hts (lw_S q1881 q1882 q103 q1883) rfl rfl rfl (by decide +kernel) ⟨(by (try dsimp only); omega), (by (try dsimp only); omega)⟩) hM hS rfl hl.1 (Nat.le_of_ble_eq_true rfl) dX30_act_349 rfl ⟨(by (try dsimp only); omega), (by (try dsimp only); omega)⟩ (fun _ _ _ _ _ _ h9 => h9.elim) (fun v_13 M_14 H locs hp_15 hM hS => ?_)
    obtain ⟨⟨b3, hb3, rfl⟩, eM_14⟩ := hp_15
    rw [eM_14] at hM
    obtain ⟨⟨-, hps9⟩, ta5, tq5, tg5, k1, k2, k3, k4⟩ := (((hx4.trans e41).K hpl).ct hT9).2 t3 r3 hr3
    obtain rfl : ta5 = b3 := Option.some.inj (k1.symm.trans hb3)
    obtain ⟨-, b4, hb4, hg4⟩ := k4 0 j3 hj3
    by_cases h16 : r3.1 = 16
    · skip
      rw [if_pos h16] at hpe6
      refine lv_astore_n hx hb dX30_act_352 rfl hl (by decide) rfl (fun ls hl => ?_)
      replace hl : lv_has ls 12 [(3, .ref ta5), (7, .ref a1), (4, va_rf sc'), (0, .ref pl)] := hl
      refine lv_aload_n hx hb dX30_act_353 rfl (lv_at hl 0 rfl) ?_
      refine va_getN (D := Z.1) (ci := 2) (v := .int r3.1) (C := RX3) (T := TX3) (N := 7) hx hb hts in_X3 hown hE.1 (hM.at k2) 0 rfl mm_cX3 1 (by decide) (va_Nw.use rfl (hE.2.1 _ q286 rfl)) (fun _ h9 => h9) rfl dX30_act_354 ?_
      refine lv_bipush (v := 16) hx hb dX30_act_357 (by decide) ?_
      refine lv_icmp_ne (tgt := 366) hx hb dX30_act_359 (by decide) (fun h9 => absurd h16 h9) (fun _ => ?_)
      refine lv_iconst (v := 1) hx hb dX30_act_362 (by decide) ?_
      refine lv_goto (tgt := 367) hx hb dX30_act_363 (by decide) ?_
      refine lv_istore hx hb dX30_act_367 hl (by decide) rfl (fun ls hl => ?_)
      replace hl : lv_has ls 12 [(8, .int 1), (3, .ref ta5), (7, .ref a1), (4, va_rf sc'), (0, .ref pl)] := hl
      refine mm_new (D := Z.1) (ci := 29) (fs := mm_f0X35) (C := RX35) (T := TX35) (N := 4) hx hb hts in_X35 tyX35 tyX35_ok hown (hts _ q1857) (hts _ q1858) (hts _ q108) hE.1 hM hS hA mm_cX35 mm_dfX35 (by (try dsimp only); omega) (by (try dsimp only); omega) dX30_act_369 (fun q_17 H nq_16 hM hS => ?_)
      have hM : mm_P Z.1 mm_cl A (mm_U M_9 q_17 (.inr (29, [.int 0, .null, .null, .null]))) H := hM
      have ne_18 : pl ≠ q_17 := (mm_neN hp1 nq_16)
      have ne_19 : a1 ≠ q_17 := (mm_neN hch nq_16)
      have ne_20 : ta5 ≠ q_17 := (mm_neN k2 nq_16)
      have ne_21 : tq5 ≠ q_17 := (mm_neN k3 nq_16)
      have hc_22 : (mm_U M_9 q_17 (.inr (29, [.int 0, .null, .null, .null]))) q_17 = some (.inr (29, [.int 0, .null, .null, .null])) := mm_U_eq
      have hc_23 : (mm_U M_9 q_17 (.inr (29, [.int 0, .null, .null, .null]))) pl = some (.inr (25, [.int (nI c1)])) := (mm_U_ne ne_18).trans hp1
      have hc_24 : (mm_U M_9 q_17 (.inr (29, [.int 0, .null, .null, .null]))) a1 = some (.inr (31, [.int (nI l1), .ref va1])) := (mm_U_ne ne_19).trans hch
      have hc_25 : (mm_U M_9 q_17 (.inr (29, [.int 0, .null, .null, .null]))) ta5 = some (.inr (2, [.int (nI t3), .int r3.1, .int r3.2.1, .int r3.2.2.1, .ref tq5, .int (nI r3.2.2.2.2), va_rf (F t3)])) := (mm_U_ne ne_20).trans k2
      have hc_26 : (mm_U M_9 q_17 (.inr (29, [.int 0, .null, .null, .null]))) tq5 = some (.inl (Z.2.1 4, r3.2.2.2.1.length, .inr (.inr (.inr (.inr tg5))))) := (mm_U_ne ne_21).trans k3
      obtain ⟨M_27, eM_27⟩ : ∃ z, z = mm_U M_9 q_17 (.inr (29, [.int 0, .null, .null, .null])) := ⟨_, rfl⟩
      rw [← eM_27] at hM hc_23 hc_24 hc_25 hc_26 hc_22
      have kz_28 : mm_Kp M_9 M_27 := by rw [eM_27]; exact (mm_Ext.U nq_16).K
      have hz_29 : M_5 q_17 = none := mm_Exp.no e41 hp1 nq_16
      have e4_30 : mm_Exp pl M_5 M_27 := by rw [eM_27]; exact e41.put hz_29
      refine lv_dup hx hb dX30_act_372 rfl ?_
      refine lv_iload hx hb dX30_act_373 (lv_at hl 0 rfl) ?_
      refine lv_if_eq (tgt := 385) hx hb dX30_act_375 (by decide) (fun h9 => absurd h9 (by decide)) (fun _ => ?_)
      refine lv_aload_n hx hb dX30_act_378 rfl (lv_at hl 1 rfl) ?_
      refine va_getN (D := Z.1) (ci := 2) (v := .int r3.2.1) (C := RX3) (T := TX3) (N := 7) hx hb hts in_X3 hown hE.1 (hM.at hc_25) 0 rfl mm_cX3 2 (by decide) (va_Nw.use rfl (hE.2.1 _ q289 rfl)) (fun _ h9 => h9) rfl dX30_act_379 ?_
      refine lv_goto (tgt := 389) hx hb dX30_act_382 (by decide) ?_
      refine lv_iload hx hb dX30_act_389 (lv_at hl 0 rfl) ?_
      refine lv_if_eq (tgt := 399) hx hb dX30_act_391 (by decide) (fun h9 => absurd h9 (by decide)) (fun _ => ?_)
      refine lv_aload hx hb dX30_act_394 (lv_at hl 2 rfl) ?_
      refine lv_goto (tgt := 404) hx hb dX30_act_396 (by decide) ?_
      refine lv_null hx hb dX30_act_404 ?_
      refine mm_aload hx hb dX30_act_405 (lv_at hl 3 rfl) ?_
      refine mm_callI (As := [.int r3.2.1, .ref a1, .null, va_rf sc']) (rest := [.ref q_17]) ⟨hx, hb, hml, hown, hts⟩ hE hST hA (c_X35_init l Z (M := M_27) (h0 := q_17) (x1 := r3.2.1) (x2 := (some a1)) (x3 := none) (x4 := sc') hc_22) (cwI (maxL := 5) 4 hts (lw_meth q1861) rfl rfl rfl (hts _ q108) (hts _ q1859) (hts _ q1860) rfl (by decide +kernel) ⟨(by (try dsimp only); omega), (by (try dsimp only); omega)⟩) hM hS rfl hl.1 (Nat.le_of_ble_eq_true rfl) dX30_act_407 rfl ⟨(by (try dsimp only); omega), (by (try dsimp only); omega)⟩ (fun _ _ _ _ _ _ h9 => h9.elim) (fun v_31 M_32 H locs hp_33 hM hS => ?_)
      obtain ⟨rfl, eM_32⟩ := hp_33
      rw [eM_32] at hM
      replace hM : mm_P Z.1 mm_cl A (mm_U M_27 q_17 (.inr (29, [.int r3.2.1, .ref a1, .null, va_rf sc']))) H := hM
      have hc_34 : (mm_U M_27 q_17 (.inr (29, [.int r3.2.1, .ref a1, .null, va_rf sc']))) q_17 = some (.inr (29, [.int r3.2.1, .ref a1, .null, va_rf sc'])) := mm_U_eq
      have hc_35 : (mm_U M_27 q_17 (.inr (29, [.int r3.2.1, .ref a1, .null, va_rf sc']))) pl = some (.inr (25, [.int (nI c1)])) := (mm_U_ne ne_18).trans hc_23
      have hc_36 : (mm_U M_27 q_17 (.inr (29, [.int r3.2.1, .ref a1, .null, va_rf sc']))) a1 = some (.inr (31, [.int (nI l1), .ref va1])) := (mm_U_ne ne_19).trans hc_24
      have hc_37 : (mm_U M_27 q_17 (.inr (29, [.int r3.2.1, .ref a1, .null, va_rf sc']))) ta5 = some (.inr (2, [.int (nI t3), .int r3.1, .int r3.2.1, .int r3.2.2.1, .ref tq5, .int (nI r3.2.2.2.2), va_rf (F t3)])) := (mm_U_ne ne_20).trans hc_25
      have hc_38 : (mm_U M_27 q_17 (.inr (29, [.int r3.2.1, .ref a1, .null, va_rf sc']))) tq5 = some (.inl (Z.2.1 4, r3.2.2.2.1.length, .inr (.inr (.inr (.inr tg5))))) := (mm_U_ne ne_21).trans hc_26
      obtain ⟨M_39, eM_39⟩ : ∃ z, z = mm_U M_27 q_17 (.inr (29, [.int r3.2.1, .ref a1, .null, va_rf sc'])) := ⟨_, rfl⟩
      rw [← eM_39] at hM hc_35 hc_36 hc_37 hc_38 hc_34
      have kz_40 : mm_Kp M_27 M_39 := by rw [eM_39]; exact mm_Kp.put29 hc_22
      have e4_41 : mm_Exp pl M_5 M_39 := by rw [eM_39]; exact e4_30.put hz_29
      refine lv_astore hx hb dX30_act_410 hl (by decide) rfl (fun ls hl => ?_)
      replace hl : lv_has ls 12 [(4, .ref q_17), (8, .int 1), (3, .ref ta5), (7, .ref a1), (0, .ref pl)] := hl
      refine lv_aload_n hx hb dX30_act_412 rfl (lv_at hl 2 rfl) ?_
      refine va_getN (D := Z.1) (ci := 2) (v := .ref tq5) (C := RX3) (T := TX3) (N := 7) hx hb hts in_X3 hown hE.1 (hM.at hc_37) 0 rfl mm_cX3 4 (by decide) (va_Nw.use rfl (hE.2.1 _ q295 rfl)) (fun _ h9 => h9) rfl dX30_act_413 ?_
      refine lv_iconst (v := 0) hx hb dX30_act_416 (by decide) ?_
      refine mm_aald (k := 0) hx hb hE hM 4 hc_38 rfl (by decide) (List.getElem?_eq_some_iff.mp hj3).1 (by omega) dX30_act_417 ?_
      rw [hg4]
      refine lv_astore_n hx hb dX30_act_418 rfl hl (by decide) rfl (fun ls hl => ?_)
      replace hl : lv_has ls 12 [(3, .ref b4), (4, .ref q_17), (8, .int 1), (7, .ref a1), (0, .ref pl)] := hl
      refine lv_goto (tgt := 600) hx hb dX30_act_419 (by decide) ?_
      refine lv_goto (tgt := 5) hx hb dX30_act_600 (by decide) ?_
      refine ih k (Nat.lt_succ_self k) _ _ _ _ _ _ ⟨j3, _, c1, b4, (some q_17), lv_sub hl [1, 0, 4] rfl, hc_35, by omega, by omega, hx4.trans e4_41, hb4, cr_env hc_34 (cr.mono (((mm_Kp.rf _).trans kz_28).trans kz_40) _ _ _ _ hw1') (cr.mono (mm_Exp.K e4_41 hc_4) _ _ _ _ hsc4), hpe6, by omega, ?_, ?_⟩ hM hS
      · (try dsimp only); omega
      · (try dsimp only); omega
    · skip
      rw [if_neg h16] at hpe6
      refine lv_astore_n hx hb dX30_act_352 rfl hl (by decide) rfl (fun ls hl => ?_)
      replace hl : lv_has ls 12 [(3, .ref ta5), (7, .ref a1), (4, va_rf sc'), (0, .ref pl)] := hl
      refine lv_aload_n hx hb dX30_act_353 rfl (lv_at hl 0 rfl) ?_
      refine va_getN (D := Z.1) (ci := 2) (v := .int r3.1) (C := RX3) (T := TX3) (N := 7) hx hb hts in_X3 hown hE.1 (hM.at k2) 0 rfl mm_cX3 1 (by decide) (va_Nw.use rfl (hE.2.1 _ q286 rfl)) (fun _ h9 => h9) rfl dX30_act_354 ?_
      refine lv_bipush (v := 16) hx hb dX30_act_357 (by decide) ?_
      refine lv_icmp_ne (tgt := 366) hx hb dX30_act_359 (by decide) (fun _ => ?_) (fun h9 => absurd h9 h16)
      refine lv_iconst (v := 0) hx hb dX30_act_366 (by decide) ?_
      refine lv_istore hx hb dX30_act_367 hl (by decide) rfl (fun ls hl => ?_)
      replace hl : lv_has ls 12 [(8, .int 0), (3, .ref ta5), (7, .ref a1), (4, va_rf sc'), (0, .ref pl)] := hl
      refine mm_new (D := Z.1) (ci := 29) (fs := mm_f0X35) (C := RX35) (T := TX35) (N := 4) hx hb hts in_X35 tyX35 tyX35_ok hown (hts _ q1857) (hts _ q1858) (hts _ q108) hE.1 hM hS hA mm_cX35 mm_dfX35 (by (try dsimp only); omega) (by (try dsimp only); omega) dX30_act_369 (fun q_17 H nq_16 hM hS => ?_)
      have hM : mm_P Z.1 mm_cl A (mm_U M_9 q_17 (.inr (29, [.int 0, .null, .null, .null]))) H := hM
      have ne_18 : pl ≠ q_17 := (mm_neN hp1 nq_16)
      have ne_19 : a1 ≠ q_17 := (mm_neN hch nq_16)
      have ne_20 : ta5 ≠ q_17 := (mm_neN k2 nq_16)
      have ne_21 : tq5 ≠ q_17 := (mm_neN k3 nq_16)
      have hc_22 : (mm_U M_9 q_17 (.inr (29, [.int 0, .null, .null, .null]))) q_17 = some (.inr (29, [.int 0, .null, .null, .null])) := mm_U_eq
      have hc_23 : (mm_U M_9 q_17 (.inr (29, [.int 0, .null, .null, .null]))) pl = some (.inr (25, [.int (nI c1)])) := (mm_U_ne ne_18).trans hp1
      have hc_24 : (mm_U M_9 q_17 (.inr (29, [.int 0, .null, .null, .null]))) a1 = some (.inr (31, [.int (nI l1), .ref va1])) := (mm_U_ne ne_19).trans hch
      have hc_25 : (mm_U M_9 q_17 (.inr (29, [.int 0, .null, .null, .null]))) ta5 = some (.inr (2, [.int (nI t3), .int r3.1, .int r3.2.1, .int r3.2.2.1, .ref tq5, .int (nI r3.2.2.2.2), va_rf (F t3)])) := (mm_U_ne ne_20).trans k2
      have hc_26 : (mm_U M_9 q_17 (.inr (29, [.int 0, .null, .null, .null]))) tq5 = some (.inl (Z.2.1 4, r3.2.2.2.1.length, .inr (.inr (.inr (.inr tg5))))) := (mm_U_ne ne_21).trans k3
      obtain ⟨M_27, eM_27⟩ : ∃ z, z = mm_U M_9 q_17 (.inr (29, [.int 0, .null, .null, .null])) := ⟨_, rfl⟩
      rw [← eM_27] at hM hc_23 hc_24 hc_25 hc_26 hc_22
      have kz_28 : mm_Kp M_9 M_27 := by rw [eM_27]; exact (mm_Ext.U nq_16).K
      have hz_29 : M_5 q_17 = none := mm_Exp.no e41 hp1 nq_16
      have e4_30 : mm_Exp pl M_5 M_27 := by rw [eM_27]; exact e41.put hz_29
      refine lv_dup hx hb dX30_act_372 rfl ?_
      refine lv_iload hx hb dX30_act_373 (lv_at hl 0 rfl) ?_
      refine lv_if_eq (tgt := 385) hx hb dX30_act_375 (by decide) (fun _ => ?_) (fun h9 => absurd (by decide) h9)
      refine lv_aload_n hx hb dX30_act_385 rfl (lv_at hl 1 rfl) ?_
      refine va_getN (D := Z.1) (ci := 2) (v := .int r3.2.2.1) (C := RX3) (T := TX3) (N := 7) hx hb hts in_X3 hown hE.1 (hM.at hc_25) 0 rfl mm_cX3 3 (by decide) (va_Nw.use rfl (hE.2.1 _ q292 rfl)) (fun _ h9 => h9) rfl dX30_act_386 ?_
      refine lv_iload hx hb dX30_act_389 (lv_at hl 0 rfl) ?_
      refine lv_if_eq (tgt := 399) hx hb dX30_act_391 (by decide) (fun _ => ?_) (fun h9 => absurd (by decide) h9)
      refine lv_aload hx hb dX30_act_399 (lv_at hl 2 rfl) ?_
      refine va_getN (D := Z.1) (ci := 31) (v := .ref va1) (C := RX37) (T := TX37) (N := 2) hx hb hts in_X37 hown hE.1 (hM.at hc_24) 0 rfl mm_cX37 1 (by decide) (va_Nw.use rfl (hE.2.1 _ q1944 rfl)) (fun _ h9 => h9) rfl dX30_act_401 ?_
      refine lv_null hx hb dX30_act_404 ?_
      refine mm_aload hx hb dX30_act_405 (lv_at hl 3 rfl) ?_
      refine mm_callI (As := [.int r3.2.2.1, .ref va1, .null, va_rf sc']) (rest := [.ref q_17]) ⟨hx, hb, hml, hown, hts⟩ hE hST hA (c_X35_init l Z (M := M_27) (h0 := q_17) (x1 := r3.2.2.1) (x2 := (some va1)) (x3 := none) (x4 := sc') hc_22) (cwI (maxL := 5) 4 hts (lw_meth q1861) rfl rfl rfl (hts _ q108) (hts _ q1859) (hts _ q1860) rfl (by decide +kernel) ⟨(by (try dsimp only); omega), (by (try dsimp only); omega)⟩) hM hS rfl hl.1 (Nat.le_of_ble_eq_true rfl) dX30_act_407 rfl ⟨(by (try dsimp only); omega), (by (try dsimp only); omega)⟩ (fun _ _ _ _ _ _ h9 => h9.elim) (fun v_31 M_32 H locs hp_33 hM hS => ?_)
      obtain ⟨rfl, eM_32⟩ := hp_33
      rw [eM_32] at hM
      replace hM : mm_P Z.1 mm_cl A (mm_U M_27 q_17 (.inr (29, [.int r3.2.2.1, .ref va1, .null, va_rf sc']))) H := hM
      have hc_34 : (mm_U M_27 q_17 (.inr (29, [.int r3.2.2.1, .ref va1, .null, va_rf sc']))) q_17 = some (.inr (29, [.int r3.2.2.1, .ref va1, .null, va_rf sc'])) := mm_U_eq
      have hc_35 : (mm_U M_27 q_17 (.inr (29, [.int r3.2.2.1, .ref va1, .null, va_rf sc']))) pl = some (.inr (25, [.int (nI c1)])) := (mm_U_ne ne_18).trans hc_23
      have hc_36 : (mm_U M_27 q_17 (.inr (29, [.int r3.2.2.1, .ref va1, .null, va_rf sc']))) a1 = some (.inr (31, [.int (nI l1), .ref va1])) := (mm_U_ne ne_19).trans hc_24
      have hc_37 : (mm_U M_27 q_17 (.inr (29, [.int r3.2.2.1, .ref va1, .null, va_rf sc']))) ta5 = some (.inr (2, [.int (nI t3), .int r3.1, .int r3.2.1, .int r3.2.2.1, .ref tq5, .int (nI r3.2.2.2.2), va_rf (F t3)])) := (mm_U_ne ne_20).trans hc_25
      have hc_38 : (mm_U M_27 q_17 (.inr (29, [.int r3.2.2.1, .ref va1, .null, va_rf sc']))) tq5 = some (.inl (Z.2.1 4, r3.2.2.2.1.length, .inr (.inr (.inr (.inr tg5))))) := (mm_U_ne ne_21).trans hc_26
      obtain ⟨M_39, eM_39⟩ : ∃ z, z = mm_U M_27 q_17 (.inr (29, [.int r3.2.2.1, .ref va1, .null, va_rf sc'])) := ⟨_, rfl⟩
      rw [← eM_39] at hM hc_35 hc_36 hc_37 hc_38 hc_34
      have kz_40 : mm_Kp M_27 M_39 := by rw [eM_39]; exact mm_Kp.put29 hc_22
      have e4_41 : mm_Exp pl M_5 M_39 := by rw [eM_39]; exact e4_30.put hz_29
      refine lv_astore hx hb dX30_act_410 hl (by decide) rfl (fun ls hl => ?_)
      replace hl : lv_has ls 12 [(4, .ref q_17), (8, .int 0), (3, .ref ta5), (7, .ref a1), (0, .ref pl)] := hl
      refine lv_aload_n hx hb dX30_act_412 rfl (lv_at hl 2 rfl) ?_
      refine va_getN (D := Z.1) (ci := 2) (v := .ref tq5) (C := RX3) (T := TX3) (N := 7) hx hb hts in_X3 hown hE.1 (hM.at hc_37) 0 rfl mm_cX3 4 (by decide) (va_Nw.use rfl (hE.2.1 _ q295 rfl)) (fun _ h9 => h9) rfl dX30_act_413 ?_
      refine lv_iconst (v := 0) hx hb dX30_act_416 (by decide) ?_
      refine mm_aald (k := 0) hx hb hE hM 4 hc_38 rfl (by decide) (List.getElem?_eq_some_iff.mp hj3).1 (by omega) dX30_act_417 ?_
      rw [hg4]
      refine lv_astore_n hx hb dX30_act_418 rfl hl (by decide) rfl (fun ls hl => ?_)
      replace hl : lv_has ls 12 [(3, .ref b4), (4, .ref q_17), (8, .int 0), (7, .ref a1), (0, .ref pl)] := hl
      refine lv_goto (tgt := 600) hx hb dX30_act_419 (by decide) ?_
      refine lv_goto (tgt := 5) hx hb dX30_act_600 (by decide) ?_
      refine ih k (Nat.lt_succ_self k) _ _ _ _ _ _ ⟨j3, _, c1, b4, (some q_17), lv_sub hl [1, 0, 4] rfl, hc_35, by omega, by omega, hx4.trans e4_41, hb4, cr_env hc_34 (cr.mono (((mm_Kp.rf _).trans kz_28).trans kz_40) _ _ _ _ hva1) (cr.mono (mm_Exp.K e4_41 hc_4) _ _ _ _ hsc4), hpe6, by omega, ?_, ?_⟩ hM hS
      · (try dsimp only); omega
      · (try dsimp only); omega
  rw [if_neg hk11] at hpe4
  by_cases hk12 : r.1 = 12
  · skip
    rw [if_pos hk12] at hpe4
    rw [hk12]
    refine lv_tableIn (tgt := 422) (off := 409) hx hb dX30_act_13 (by decide) (by decide) (by decide) (by decide) ?_
    refine lv_aload_n hx hb dX30_act_422 rfl (lv_at hl 1 rfl) ?_
    refine va_getN (D := Z.1) (ci := 2) (v := .ref tq) (C := RX3) (T := TX3) (N := 7) hx hb hts in_X3 hown hE.1 (hM.at ht_6) 0 rfl mm_cX3 4 (by decide) (va_Nw.use rfl (hE.2.1 _ q295 rfl)) (fun _ h9 => h9) rfl dX30_act_423 ?_
    obtain ⟨r1, hx1⟩ := pb_ne hpe4
    obtain ⟨j1, hj1, hr1⟩ := at_some hx1
    obtain ⟨-, b1, hb1, hg1⟩ := g4 0 j1 hj1
    have hro1 := us_pb (n0 := n0) hpe4 hx1 (mono_at (fun j => hmr _ _ _ (by omega))) (fun _ _ _ _ => (by repeat' (first | exact mono_none _ | exact mono_ret (by omega) | exact hmr _ _ _ (by omega) | exact mono_same (by omega) | exact mono_cas hmr (by omega) | (refine mono_app hmr (by omega) ?_) | (refine mono_pb ?_ (fun _ _ _ _ => ?_)) | (refine mono_at (fun _ => ?_)) | split))) (by omega) (by omega)
    refine lv_aload_n hx hb dX30_act_426 rfl (lv_at hl 2 rfl) ?_
    refine lv_aload_n hx hb dX30_act_427 rfl (lv_at hl 1 rfl) ?_
    refine va_getN (D := Z.1) (ci := 2) (v := .ref tq) (C := RX3) (T := TX3) (N := 7) hx hb hts in_X3 hown hE.1 (hM.at ht_6) 0 rfl mm_cX3 4 (by decide) (va_Nw.use rfl (hE.2.1 _ q295 rfl)) (fun _ h9 => h9) rfl dX30_act_428 ?_
    refine lv_iconst (v := 0) hx hb dX30_act_431 (by decide) ?_
    refine mm_aald (k := 0) hx hb hE hM 4 ht_7 rfl (by decide) (List.getElem?_eq_some_iff.mp hj1).1 (by omega) dX30_act_432 ?_
    rw [hg1]
    refine mm_aload hx hb dX30_act_433 (lv_at hl 0 rfl) ?_
    refine mm_callV (As := [.ref b1, va_rf sc']) (rest := [.ref tq]) ⟨hx, hb, hml, hown, hts⟩ hE hST hA (ihK k hkl j1 (en') (n + 1) r1 M_5 pl b1 (sc') (hz9.K ((hx4.trans (mm_Exp.rf pl M_5)).K hpl)) hc_4 (by omega) (((hx4.trans (mm_Exp.rf pl M_5)).K hpl).ct hT9) hb1 (cr.mono (mm_Exp.K (mm_Exp.rf pl M_5) hc_4) _ _ _ _ hsc4) hr1) (cwV 2 hts (lw_V q1856 q1801 q1802 q103 q1803) rfl rfl rfl (by decide +kernel) ⟨(by (try dsimp only); omega), (by (try dsimp only); omega)⟩) hM hS mm_cX30 hc_4 rfl hl.1 (Nat.le_of_ble_eq_true rfl) dX30_act_435 rfl ⟨(by (try dsimp only); omega), (by (try dsimp only); omega)⟩ ?_ (fun v_8 M_9 H locs hp_10 hM hS => ?_)
    · intro E ce q9 M9 H1 locs1 hp9 hM9 hS9 hce hcv hcl
      obtain ⟨rfl, rfl, h8, h7⟩ := hp9
      have hu9 : us (n + 1) (none : Option (ev × Nat)) = 1001 - (n + 1) := rfl
      exact mm_outx htab hlk hM9 hS9 hce hcv hcl ⟨hro1.2.1 rfl, rfl, h8, (hx4.trans (mm_Exp.rf pl M_5)).trans h7⟩ (by (try dsimp only); omega) (by (try dsimp only); omega)
    obtain ⟨w1, c1, a1, rfl, rfl, hw1, hp1, hxx1⟩ := hp_10
    obtain ⟨hpe1, hca1, hcb1⟩ := hro1.2.2 w1 c1 rfl
    have hu1 : us (n + 1) (some (w1, c1)) = c1 - (n + 1) := rfl
    have e41 := (mm_Exp.rf pl M_5).trans hxx1
    have ht_11 := (mm_Exp.K e41 hc_4).1 _ _ _ g2 ⟨by decide, by simp [mm_zs]⟩
    have ht_12 := (mm_Exp.K e41 hc_4).2 _ _ g3
    obtain ⟨n1, rfl⟩ : ∃ n1, w1 = .natCast n1 := by cases w1 <;> first | exact ⟨_, rfl⟩ | cases hpe1
    (try dsimp only at hpe1)
    simp only [cr] at hw1
    obtain ⟨a9, e9, ham1⟩ := hw1
    cases e9
    refine mm_callS (As := [.ref a1]) (rest := [.ref tq]) ⟨hx, hb, hml, hown, hts⟩ hE hST hA (c_X30_numberOf l Z ham1) (va_cwS 1 hts (lw_S q1884 q1885 q103 q1886) rfl rfl rfl (by decide +kernel) ⟨(by (try dsimp only); omega), (by (try dsimp only); omega)⟩) hM hS rfl hl.1 (Nat.le_of_ble_eq_true rfl) dX30_act_438 rfl ⟨(by (try dsimp only); omega), (by (try dsimp only); omega)⟩ (fun _ _ _ _ _ _ h9 => h9.elim) (fun v_13 M_14 H locs hp_15 hM hS => ?_)
    obtain ⟨rfl, eM_14⟩ := hp_15
    rw [eM_14] at hM
    refine lv_if_eq (tgt := 448) hx hb dX30_act_441 (by decide) (fun c_16 => ?_) (fun c_16 => ?_)
    · skip
      rw [if_pos c_16] at hpe1
      obtain ⟨j2, hj2, hpe5⟩ := at_some hpe1
      obtain ⟨-, b2, hb2, hg2⟩ := g4 2 j2 hj2
      refine lv_iconst (v := 2) hx hb dX30_act_448 (by decide) ?_
      refine mm_aald (k := 2) hx hb hE hM 4 ht_12 rfl (by decide) (List.getElem?_eq_some_iff.mp hj2).1 (by omega) dX30_act_449 ?_
      rw [hg2]
      refine lv_astore_n hx hb dX30_act_450 rfl hl (by decide) rfl (fun ls hl => ?_)
      replace hl : lv_has ls 12 [(3, .ref b2), (4, va_rf sc'), (0, .ref pl)] := hl
      refine lv_goto (tgt := 600) hx hb dX30_act_451 (by decide) ?_
      refine lv_goto (tgt := 5) hx hb dX30_act_600 (by decide) ?_
      refine ih k (Nat.lt_succ_self k) _ _ _ _ _ _ ⟨j2, en', c1, b2, sc', lv_sub hl [1, 0, 2] rfl, hp1, by omega, by omega, hx4.trans e41, hb2, (cr.mono (mm_Exp.K e41 hc_4) _ _ _ _ hsc4), hpe5, by omega, ?_, ?_⟩ hM hS
      · (try dsimp only); omega
      · (try dsimp only); omega
    · skip
      rw [if_neg c_16] at hpe1
      obtain ⟨j2, hj2, hpe5⟩ := at_some hpe1
      obtain ⟨-, b2, hb2, hg2⟩ := g4 1 j2 hj2
      refine lv_iconst (v := 1) hx hb dX30_act_444 (by decide) ?_
      refine lv_goto (tgt := 449) hx hb dX30_act_445 (by decide) ?_
      refine mm_aald (k := 1) hx hb hE hM 4 ht_12 rfl (by decide) (List.getElem?_eq_some_iff.mp hj2).1 (by omega) dX30_act_449 ?_
      rw [hg2]
      refine lv_astore_n hx hb dX30_act_450 rfl hl (by decide) rfl (fun ls hl => ?_)
      replace hl : lv_has ls 12 [(3, .ref b2), (4, va_rf sc'), (0, .ref pl)] := hl
      refine lv_goto (tgt := 600) hx hb dX30_act_451 (by decide) ?_
      refine lv_goto (tgt := 5) hx hb dX30_act_600 (by decide) ?_
      refine ih k (Nat.lt_succ_self k) _ _ _ _ _ _ ⟨j2, en', c1, b2, sc', lv_sub hl [1, 0, 2] rfl, hp1, by omega, by omega, hx4.trans e41, hb2, (cr.mono (mm_Exp.K e41 hc_4) _ _ _ _ hsc4), hpe5, by omega, ?_, ?_⟩ hM hS
      · (try dsimp only); omega
      · (try dsimp only); omega
  rw [if_neg hk12] at hpe4
  by_cases hk13 : r.1 = 13
  · skip
    rw [if_pos hk13] at hpe4
    rw [hk13]
    refine lv_tableIn (tgt := 454) (off := 441) hx hb dX30_act_13 (by decide) (by decide) (by decide) (by decide) ?_
    obtain ⟨r1, hx1⟩ := pb_ne hpe4
    obtain ⟨j1, hj1, hr1⟩ := at_some hx1
    obtain ⟨-, b1, hb1, hg1⟩ := g4 0 j1 hj1
    have hro1 := us_pb (n0 := n0) hpe4 hx1 (mono_at (fun j => hmr _ _ _ (by omega))) (fun _ _ _ _ => (by repeat' (first | exact mono_none _ | exact mono_ret (by omega) | exact hmr _ _ _ (by omega) | exact mono_same (by omega) | exact mono_cas hmr (by omega) | (refine mono_app hmr (by omega) ?_) | (refine mono_pb ?_ (fun _ _ _ _ => ?_)) | (refine mono_at (fun _ => ?_)) | split))) (by omega) (by omega)
    refine lv_aload_n hx hb dX30_act_454 rfl (lv_at hl 2 rfl) ?_
    refine lv_aload_n hx hb dX30_act_455 rfl (lv_at hl 1 rfl) ?_
    refine va_getN (D := Z.1) (ci := 2) (v := .ref tq) (C := RX3) (T := TX3) (N := 7) hx hb hts in_X3 hown hE.1 (hM.at ht_6) 0 rfl mm_cX3 4 (by decide) (va_Nw.use rfl (hE.2.1 _ q295 rfl)) (fun _ h9 => h9) rfl dX30_act_456 ?_
    refine lv_iconst (v := 0) hx hb dX30_act_459 (by decide) ?_
    refine mm_aald (k := 0) hx hb hE hM 4 ht_7 rfl (by decide) (List.getElem?_eq_some_iff.mp hj1).1 (by omega) dX30_act_460 ?_
    rw [hg1]
    refine mm_aload hx hb dX30_act_461 (lv_at hl 0 rfl) ?_
    refine mm_callV (As := [.ref b1, va_rf sc']) (rest := []) ⟨hx, hb, hml, hown, hts⟩ hE hST hA (ihK k hkl j1 (en') (n + 1) r1 M_5 pl b1 (sc') (hz9.K ((hx4.trans (mm_Exp.rf pl M_5)).K hpl)) hc_4 (by omega) (((hx4.trans (mm_Exp.rf pl M_5)).K hpl).ct hT9) hb1 (cr.mono (mm_Exp.K (mm_Exp.rf pl M_5) hc_4) _ _ _ _ hsc4) hr1) (cwV 2 hts (lw_V q1856 q1801 q1802 q103 q1803) rfl rfl rfl (by decide +kernel) ⟨(by (try dsimp only); omega), (by (try dsimp only); omega)⟩) hM hS mm_cX30 hc_4 rfl hl.1 (Nat.le_of_ble_eq_true rfl) dX30_act_463 rfl ⟨(by (try dsimp only); omega), (by (try dsimp only); omega)⟩ ?_ (fun v_8 M_9 H locs hp_10 hM hS => ?_)
    · intro E ce q9 M9 H1 locs1 hp9 hM9 hS9 hce hcv hcl
      obtain ⟨rfl, rfl, h8, h7⟩ := hp9
      have hu9 : us (n + 1) (none : Option (ev × Nat)) = 1001 - (n + 1) := rfl
      exact mm_outx htab hlk hM9 hS9 hce hcv hcl ⟨hro1.2.1 rfl, rfl, h8, (hx4.trans (mm_Exp.rf pl M_5)).trans h7⟩ (by (try dsimp only); omega) (by (try dsimp only); omega)
    obtain ⟨w1, c1, a1, rfl, rfl, hw1, hp1, hxx1⟩ := hp_10
    obtain ⟨hpe1, hca1, hcb1⟩ := hro1.2.2 w1 c1 rfl
    have hu1 : us (n + 1) (some (w1, c1)) = c1 - (n + 1) := rfl
    have e41 := (mm_Exp.rf pl M_5).trans hxx1
    have ht_11 := (mm_Exp.K e41 hc_4).1 _ _ _ g2 ⟨by decide, by simp [mm_zs]⟩
    have ht_12 := (mm_Exp.K e41 hc_4).2 _ _ g3
    obtain ⟨n1, rfl⟩ : ∃ n1, w1 = .natCast n1 := by cases w1 <;> first | exact ⟨_, rfl⟩ | cases hpe1
    (try dsimp only at hpe1)
    simp only [cr] at hw1
    obtain ⟨a9, e9, ham1⟩ := hw1
    cases e9
    refine mm_callS (As := [.ref a1]) (rest := []) ⟨hx, hb, hml, hown, hts⟩ hE hST hA (c_X30_numberOf l Z ham1) (va_cwS 1 hts (lw_S q1884 q1885 q103 q1886) rfl rfl rfl (by decide +kernel) ⟨(by (try dsimp only); omega), (by (try dsimp only); omega)⟩) hM hS rfl hl.1 (Nat.le_of_ble_eq_true rfl) dX30_act_466 rfl ⟨(by (try dsimp only); omega), (by (try dsimp only); omega)⟩ (fun _ _ _ _ _ _ h9 => h9.elim) (fun v_13 M_14 H locs hp_15 hM hS => ?_)
    obtain ⟨rfl, eM_14⟩ := hp_15
    rw [eM_14] at hM
    refine lv_istore hx hb dX30_act_469 hl (by decide) rfl (fun ls hl => ?_)
    replace hl : lv_has ls 12 [(9, .int (nI n1)), (4, va_rf sc'), (3, .ref ta2), (0, .ref pl)] := hl
    refine mm_new (D := Z.1) (ci := 27) (fs := mm_f0X33) (C := RX33) (T := TX33) (N := 1) hx hb hts in_X33 tyX33 tyX33_ok hown (hts _ q1823) (hts _ q1824) (hts _ q106) hE.1 hM hS hA mm_cX33 mm_dfX33 (by (try dsimp only); omega) (by (try dsimp only); omega) dX30_act_471 (fun q_17 H nq_16 hM hS => ?_)
    have hM : mm_P Z.1 mm_cl A (mm_U M_9 q_17 (.inr (27, [.int 0]))) H := hM
    have ne_18 : pl ≠ q_17 := (mm_neN hp1 nq_16)
    have ne_19 : ta2 ≠ q_17 := (mm_neN ht_11 nq_16)
    have ne_20 : tq ≠ q_17 := (mm_neN ht_12 nq_16)
    have hc_21 : (mm_U M_9 q_17 (.inr (27, [.int 0]))) q_17 = some (.inr (27, [.int 0])) := mm_U_eq
    have hc_22 : (mm_U M_9 q_17 (.inr (27, [.int 0]))) pl = some (.inr (25, [.int (nI c1)])) := (mm_U_ne ne_18).trans hp1
    have hc_23 : (mm_U M_9 q_17 (.inr (27, [.int 0]))) ta2 = some (.inr (2, [.int (nI t'), .int r.1, .int r.2.1, .int r.2.2.1, .ref tq, .int (nI r.2.2.2.2), va_rf (F t')])) := (mm_U_ne ne_19).trans ht_11
    have hc_24 : (mm_U M_9 q_17 (.inr (27, [.int 0]))) tq = some (.inl (Z.2.1 4, r.2.2.2.1.length, .inr (.inr (.inr (.inr tg))))) := (mm_U_ne ne_20).trans ht_12
    obtain ⟨M_25, eM_25⟩ : ∃ z, z = mm_U M_9 q_17 (.inr (27, [.int 0])) := ⟨_, rfl⟩
    rw [← eM_25] at hM hc_22 hc_23 hc_24 hc_21
    have kz_26 : mm_Kp M_9 M_25 := by rw [eM_25]; exact (mm_Ext.U nq_16).K
    have hz_27 : M_5 q_17 = none := mm_Exp.no e41 hp1 nq_16
    have e4_28 : mm_Exp pl M_5 M_25 := by rw [eM_25]; exact e41.put hz_27
    obtain ⟨r2, hx2⟩ := pb_ne hpe1
    obtain ⟨j2, hj2, hr2⟩ := at_some hx2
    obtain ⟨-, b2, hb2, hg2⟩ := g4 1 j2 hj2
    have hro2 := us_pb (n0 := n0) hpe1 hx2 (mono_at (fun j => hmr _ _ _ (by omega))) (fun _ _ _ _ => (by repeat' (first | exact mono_none _ | exact mono_ret (by omega) | exact hmr _ _ _ (by omega) | exact mono_same (by omega) | exact mono_cas hmr (by omega) | (refine mono_app hmr (by omega) ?_) | (refine mono_pb ?_ (fun _ _ _ _ => ?_)) | (refine mono_at (fun _ => ?_)) | split))) (by omega) (by omega)
    refine lv_dup hx hb dX30_act_474 rfl ?_
    refine lv_iload hx hb dX30_act_475 (lv_at hl 0 rfl) ?_
    refine lv_aload_n hx hb dX30_act_477 rfl (lv_at hl 3 rfl) ?_
    refine lv_aload_n hx hb dX30_act_478 rfl (lv_at hl 2 rfl) ?_
    refine va_getN (D := Z.1) (ci := 2) (v := .ref tq) (C := RX3) (T := TX3) (N := 7) hx hb hts in_X3 hown hE.1 (hM.at hc_23) 0 rfl mm_cX3 4 (by decide) (va_Nw.use rfl (hE.2.1 _ q295 rfl)) (fun _ h9 => h9) rfl dX30_act_479 ?_
    refine lv_iconst (v := 1) hx hb dX30_act_482 (by decide) ?_
    refine mm_aald (k := 1) hx hb hE hM 4 hc_24 rfl (by decide) (List.getElem?_eq_some_iff.mp hj2).1 (by omega) dX30_act_483 ?_
    rw [hg2]
    refine mm_aload hx hb dX30_act_484 (lv_at hl 1 rfl) ?_
    refine mm_callV (As := [.ref b2, va_rf sc']) (rest := [.int (nI n1), .ref q_17, .ref q_17]) ⟨hx, hb, hml, hown, hts⟩ hE hST hA (ihK k hkl j2 (en') (c1) r2 M_25 pl b2 (sc') (hz9.K ((hx4.trans e4_28).K hpl)) hc_22 (by omega) (((hx4.trans e4_28).K hpl).ct hT9) hb2 (cr.mono (mm_Exp.K e4_28 hc_4) _ _ _ _ hsc4) hr2) (cwV 2 hts (lw_V q1856 q1801 q1802 q103 q1803) rfl rfl rfl (by decide +kernel) ⟨(by (try dsimp only); omega), (by (try dsimp only); omega)⟩) hM hS mm_cX30 hc_22 rfl hl.1 (Nat.le_of_ble_eq_true rfl) dX30_act_486 rfl ⟨(by (try dsimp only); omega), (by (try dsimp only); omega)⟩ ?_ (fun v_29 M_30 H locs hp_31 hM hS => ?_)
    · intro E ce q9 M9 H1 locs1 hp9 hM9 hS9 hce hcv hcl
      obtain ⟨rfl, rfl, h8, h7⟩ := hp9
      have hu9 : us c1 (none : Option (ev × Nat)) = 1001 - c1 := rfl
      exact mm_outx htab hlk hM9 hS9 hce hcv hcl ⟨hro2.2.1 rfl, rfl, h8, (hx4.trans e4_28).trans h7⟩ (by (try dsimp only); omega) (by (try dsimp only); omega)
    obtain ⟨w2, c2, a2, rfl, rfl, hw2, hp2, hxx2⟩ := hp_31
    obtain ⟨hpe2, hca2, hcb2⟩ := hro2.2.2 w2 c2 rfl
    have hu2 : us c1 (some (w2, c2)) = c2 - c1 := rfl
    have e42 := e4_28.trans hxx2
    have hc_32 := hxx2.at hc_22 hc_21 (by decide)
    have ht_33 := (mm_Exp.K e42 hc_4).1 _ _ _ g2 ⟨by decide, by simp [mm_zs]⟩
    have ht_34 := (mm_Exp.K e42 hc_4).2 _ _ g3
    obtain ⟨n2, rfl⟩ : ∃ n2, w2 = .natCast n2 := by cases w2 <;> first | exact ⟨_, rfl⟩ | cases hpe2
    (try dsimp only at hpe2)
    simp only [cr] at hw2
    obtain ⟨a9, e9, ham2⟩ := hw2
    cases e9
    refine mm_callS (As := [.ref a2]) (rest := [.int (nI n1), .ref q_17, .ref q_17]) ⟨hx, hb, hml, hown, hts⟩ hE hST hA (c_X30_numberOf l Z ham2) (va_cwS 1 hts (lw_S q1884 q1885 q103 q1886) rfl rfl rfl (by decide +kernel) ⟨(by (try dsimp only); omega), (by (try dsimp only); omega)⟩) hM hS rfl hl.1 (Nat.le_of_ble_eq_true rfl) dX30_act_489 rfl ⟨(by (try dsimp only); omega), (by (try dsimp only); omega)⟩ (fun _ _ _ _ _ _ h9 => h9.elim) (fun v_35 M_36 H locs hp_37 hM hS => ?_)
    obtain ⟨rfl, eM_36⟩ := hp_37
    rw [eM_36] at hM
    refine lv_iadd hx hb dX30_act_492 ?_
    rw [show ((nI n1) + (nI n2) : Int32) = nI (n1 + n2) from nI_add _ _]
    refine mm_callI (As := [.int (nI (n1 + n2))]) (rest := [.ref q_17]) ⟨hx, hb, hml, hown, hts⟩ hE hST hA (c_X33_init l Z (M := M_30) (h0 := q_17) (x1 := (nI (n1 + n2))) hc_32) (cwI (maxL := 2) 1 hts (lw_meth q1827) rfl rfl rfl (hts _ q106) (hts _ q1825) (hts _ q1826) rfl (by decide +kernel) ⟨(by (try dsimp only); omega), (by (try dsimp only); omega)⟩) hM hS rfl hl.1 (Nat.le_of_ble_eq_true rfl) dX30_act_493 rfl ⟨(by (try dsimp only); omega), (by (try dsimp only); omega)⟩ (fun _ _ _ _ _ _ h9 => h9.elim) (fun v_38 M_39 H locs hp_40 hM hS => ?_)
    obtain ⟨rfl, eM_39⟩ := hp_40
    rw [eM_39] at hM
    replace hM : mm_P Z.1 mm_cl A (mm_U M_30 q_17 (.inr (27, [.int (nI (n1 + n2))]))) H := hM
    have hc_41 : (mm_U M_30 q_17 (.inr (27, [.int (nI (n1 + n2))]))) q_17 = some (.inr (27, [.int (nI (n1 + n2))])) := mm_U_eq
    have hc_42 : (mm_U M_30 q_17 (.inr (27, [.int (nI (n1 + n2))]))) pl = some (.inr (25, [.int (nI c2)])) := (mm_U_ne ne_18).trans hp2
    have hc_43 : (mm_U M_30 q_17 (.inr (27, [.int (nI (n1 + n2))]))) ta2 = some (.inr (2, [.int (nI t'), .int r.1, .int r.2.1, .int r.2.2.1, .ref tq, .int (nI r.2.2.2.2), va_rf (F t')])) := (mm_U_ne ne_19).trans ht_33
    have hc_44 : (mm_U M_30 q_17 (.inr (27, [.int (nI (n1 + n2))]))) tq = some (.inl (Z.2.1 4, r.2.2.2.1.length, .inr (.inr (.inr (.inr tg))))) := (mm_U_ne ne_20).trans ht_34
    obtain ⟨M_45, eM_45⟩ : ∃ z, z = mm_U M_30 q_17 (.inr (27, [.int (nI (n1 + n2))])) := ⟨_, rfl⟩
    rw [← eM_45] at hM hc_42 hc_43 hc_44 hc_41
    have e4_46 : mm_Exp pl M_5 M_45 := by rw [eM_45]; exact e42.put hz_27
    obtain rfl : res = some (.natCast (n1 + n2), c2) := (Option.some.inj hpe2).symm
    exact mm_reta hx hb hr (Or.inl ⟨_, rfl⟩) (Or.inr ⟨_, rfl⟩) hlk hM hS ⟨.natCast (n1 + n2), c2, q_17, rfl, rfl, by simp only [cr]; exact ⟨_, rfl, hc_41⟩, hc_42, hx4.trans e4_46⟩ dX30_act_496 (by (try dsimp only [us]); omega) (by (try dsimp only [us]); omega)
  rw [if_neg hk13] at hpe4
  by_cases hk14 : r.1 = 14
  · skip
    rw [if_pos hk14] at hpe4
    rw [hk14]
    refine lv_tableIn (tgt := 497) (off := 484) hx hb dX30_act_13 (by decide) (by decide) (by decide) (by decide) ?_
    obtain ⟨r1, hx1⟩ := pb_ne hpe4
    obtain ⟨j1, hj1, hr1⟩ := at_some hx1
    obtain ⟨-, b1, hb1, hg1⟩ := g4 0 j1 hj1
    have hro1 := us_pb (n0 := n0) hpe4 hx1 (mono_at (fun j => hmr _ _ _ (by omega))) (fun _ _ _ _ => (by repeat' (first | exact mono_none _ | exact mono_ret (by omega) | exact hmr _ _ _ (by omega) | exact mono_same (by omega) | exact mono_cas hmr (by omega) | (refine mono_app hmr (by omega) ?_) | (refine mono_pb ?_ (fun _ _ _ _ => ?_)) | (refine mono_at (fun _ => ?_)) | split))) (by omega) (by omega)
    refine lv_aload_n hx hb dX30_act_497 rfl (lv_at hl 2 rfl) ?_
    refine lv_aload_n hx hb dX30_act_498 rfl (lv_at hl 1 rfl) ?_
    refine va_getN (D := Z.1) (ci := 2) (v := .ref tq) (C := RX3) (T := TX3) (N := 7) hx hb hts in_X3 hown hE.1 (hM.at ht_6) 0 rfl mm_cX3 4 (by decide) (va_Nw.use rfl (hE.2.1 _ q295 rfl)) (fun _ h9 => h9) rfl dX30_act_499 ?_
    refine lv_iconst (v := 0) hx hb dX30_act_502 (by decide) ?_
    refine mm_aald (k := 0) hx hb hE hM 4 ht_7 rfl (by decide) (List.getElem?_eq_some_iff.mp hj1).1 (by omega) dX30_act_503 ?_
    rw [hg1]
    refine mm_aload hx hb dX30_act_504 (lv_at hl 0 rfl) ?_
    refine mm_callV (As := [.ref b1, va_rf sc']) (rest := []) ⟨hx, hb, hml, hown, hts⟩ hE hST hA (ihK k hkl j1 (en') (n + 1) r1 M_5 pl b1 (sc') (hz9.K ((hx4.trans (mm_Exp.rf pl M_5)).K hpl)) hc_4 (by omega) (((hx4.trans (mm_Exp.rf pl M_5)).K hpl).ct hT9) hb1 (cr.mono (mm_Exp.K (mm_Exp.rf pl M_5) hc_4) _ _ _ _ hsc4) hr1) (cwV 2 hts (lw_V q1856 q1801 q1802 q103 q1803) rfl rfl rfl (by decide +kernel) ⟨(by (try dsimp only); omega), (by (try dsimp only); omega)⟩) hM hS mm_cX30 hc_4 rfl hl.1 (Nat.le_of_ble_eq_true rfl) dX30_act_506 rfl ⟨(by (try dsimp only); omega), (by (try dsimp only); omega)⟩ ?_ (fun v_8 M_9 H locs hp_10 hM hS => ?_)
    · intro E ce q9 M9 H1 locs1 hp9 hM9 hS9 hce hcv hcl
      obtain ⟨rfl, rfl, h8, h7⟩ := hp9
      have hu9 : us (n + 1) (none : Option (ev × Nat)) = 1001 - (n + 1) := rfl
      exact mm_outx htab hlk hM9 hS9 hce hcv hcl ⟨hro1.2.1 rfl, rfl, h8, (hx4.trans (mm_Exp.rf pl M_5)).trans h7⟩ (by (try dsimp only); omega) (by (try dsimp only); omega)
    obtain ⟨w1, c1, a1, rfl, rfl, hw1, hp1, hxx1⟩ := hp_10
    obtain ⟨hpe1, hca1, hcb1⟩ := hro1.2.2 w1 c1 rfl
    have hu1 : us (n + 1) (some (w1, c1)) = c1 - (n + 1) := rfl
    have e41 := (mm_Exp.rf pl M_5).trans hxx1
    have ht_11 := (mm_Exp.K e41 hc_4).1 _ _ _ g2 ⟨by decide, by simp [mm_zs]⟩
    have ht_12 := (mm_Exp.K e41 hc_4).2 _ _ g3
    refine lv_astore hx hb dX30_act_509 hl (by decide) rfl (fun ls hl => ?_)
    replace hl : lv_has ls 12 [(10, .ref a1), (4, va_rf sc'), (3, .ref ta2), (0, .ref pl)] := hl
    refine mm_new (D := Z.1) (ci := 27) (fs := mm_f0X33) (C := RX33) (T := TX33) (N := 1) hx hb hts in_X33 tyX33 tyX33_ok hown (hts _ q1823) (hts _ q1824) (hts _ q106) hE.1 hM hS hA mm_cX33 mm_dfX33 (by (try dsimp only); omega) (by (try dsimp only); omega) dX30_act_511 (fun q_14 H nq_13 hM hS => ?_)
    have hM : mm_P Z.1 mm_cl A (mm_U M_9 q_14 (.inr (27, [.int 0]))) H := hM
    have ne_15 : pl ≠ q_14 := (mm_neN hp1 nq_13)
    have ne_16 : ta2 ≠ q_14 := (mm_neN ht_11 nq_13)
    have ne_17 : tq ≠ q_14 := (mm_neN ht_12 nq_13)
    have hc_18 : (mm_U M_9 q_14 (.inr (27, [.int 0]))) q_14 = some (.inr (27, [.int 0])) := mm_U_eq
    have hc_19 : (mm_U M_9 q_14 (.inr (27, [.int 0]))) pl = some (.inr (25, [.int (nI c1)])) := (mm_U_ne ne_15).trans hp1
    have hc_20 : (mm_U M_9 q_14 (.inr (27, [.int 0]))) ta2 = some (.inr (2, [.int (nI t'), .int r.1, .int r.2.1, .int r.2.2.1, .ref tq, .int (nI r.2.2.2.2), va_rf (F t')])) := (mm_U_ne ne_16).trans ht_11
    have hc_21 : (mm_U M_9 q_14 (.inr (27, [.int 0]))) tq = some (.inl (Z.2.1 4, r.2.2.2.1.length, .inr (.inr (.inr (.inr tg))))) := (mm_U_ne ne_17).trans ht_12
    obtain ⟨M_22, eM_22⟩ : ∃ z, z = mm_U M_9 q_14 (.inr (27, [.int 0])) := ⟨_, rfl⟩
    rw [← eM_22] at hM hc_19 hc_20 hc_21 hc_18
    have kz_23 : mm_Kp M_9 M_22 := by rw [eM_22]; exact (mm_Ext.U nq_13).K
    have hz_24 : M_5 q_14 = none := mm_Exp.no e41 hp1 nq_13
    have e4_25 : mm_Exp pl M_5 M_22 := by rw [eM_22]; exact e41.put hz_24
    obtain ⟨r2, hx2⟩ := pb_ne hpe1
    obtain ⟨j2, hj2, hr2⟩ := at_some hx2
    obtain ⟨-, b2, hb2, hg2⟩ := g4 1 j2 hj2
    have hro2 := us_pb (n0 := n0) hpe1 hx2 (mono_at (fun j => hmr _ _ _ (by omega))) (fun _ _ _ _ => (by repeat' (first | exact mono_none _ | exact mono_ret (by omega) | exact hmr _ _ _ (by omega) | exact mono_same (by omega) | exact mono_cas hmr (by omega) | (refine mono_app hmr (by omega) ?_) | (refine mono_pb ?_ (fun _ _ _ _ => ?_)) | (refine mono_at (fun _ => ?_)) | split))) (by omega) (by omega)
    refine lv_dup hx hb dX30_act_514 rfl ?_
    refine lv_aload_n hx hb dX30_act_515 rfl (lv_at hl 3 rfl) ?_
    refine lv_aload hx hb dX30_act_516 (lv_at hl 0 rfl) ?_
    refine lv_aload_n hx hb dX30_act_518 rfl (lv_at hl 3 rfl) ?_
    refine lv_aload_n hx hb dX30_act_519 rfl (lv_at hl 2 rfl) ?_
    refine va_getN (D := Z.1) (ci := 2) (v := .ref tq) (C := RX3) (T := TX3) (N := 7) hx hb hts in_X3 hown hE.1 (hM.at hc_20) 0 rfl mm_cX3 4 (by decide) (va_Nw.use rfl (hE.2.1 _ q295 rfl)) (fun _ h9 => h9) rfl dX30_act_520 ?_
    refine lv_iconst (v := 1) hx hb dX30_act_523 (by decide) ?_
    refine mm_aald (k := 1) hx hb hE hM 4 hc_21 rfl (by decide) (List.getElem?_eq_some_iff.mp hj2).1 (by omega) dX30_act_524 ?_
    rw [hg2]
    refine mm_aload hx hb dX30_act_525 (lv_at hl 1 rfl) ?_
    refine mm_callV (As := [.ref b2, va_rf sc']) (rest := [.ref a1, .ref pl, .ref q_14, .ref q_14]) ⟨hx, hb, hml, hown, hts⟩ hE hST hA (ihK k hkl j2 (en') (c1) r2 M_22 pl b2 (sc') (hz9.K ((hx4.trans e4_25).K hpl)) hc_19 (by omega) (((hx4.trans e4_25).K hpl).ct hT9) hb2 (cr.mono (mm_Exp.K e4_25 hc_4) _ _ _ _ hsc4) hr2) (cwV 2 hts (lw_V q1856 q1801 q1802 q103 q1803) rfl rfl rfl (by decide +kernel) ⟨(by (try dsimp only); omega), (by (try dsimp only); omega)⟩) hM hS mm_cX30 hc_19 rfl hl.1 (Nat.le_of_ble_eq_true rfl) dX30_act_527 rfl ⟨(by (try dsimp only); omega), (by (try dsimp only); omega)⟩ ?_ (fun v_26 M_27 H locs hp_28 hM hS => ?_)
    · intro E ce q9 M9 H1 locs1 hp9 hM9 hS9 hce hcv hcl
      obtain ⟨rfl, rfl, h8, h7⟩ := hp9
      have hu9 : us c1 (none : Option (ev × Nat)) = 1001 - c1 := rfl
      exact mm_outx htab hlk hM9 hS9 hce hcv hcl ⟨hro2.2.1 rfl, rfl, h8, (hx4.trans e4_25).trans h7⟩ (by (try dsimp only); omega) (by (try dsimp only); omega)
    obtain ⟨w2, c2, a2, rfl, rfl, hw2, hp2, hxx2⟩ := hp_28
    obtain ⟨hpe2, hca2, hcb2⟩ := hro2.2.2 w2 c2 rfl
    have hu2 : us c1 (some (w2, c2)) = c2 - c1 := rfl
    have e42 := e4_25.trans hxx2
    have hc_29 := hxx2.at hc_19 hc_18 (by decide)
    have ht_30 := (mm_Exp.K e42 hc_4).1 _ _ _ g2 ⟨by decide, by simp [mm_zs]⟩
    have ht_31 := (mm_Exp.K e42 hc_4).2 _ _ g3
    obtain ⟨r3, hx3'⟩ := pb_ne hpe2
    have hro3 := us_pb (n0 := n0) hpe2 hx3' (mono_same (by omega)) (fun _ _ _ _ => (by repeat' (first | exact mono_none _ | exact mono_ret (by omega) | exact hmr _ _ _ (by omega) | exact mono_same (by omega) | exact mono_cas hmr (by omega) | (refine mono_app hmr (by omega) ?_) | (refine mono_pb ?_ (fun _ _ _ _ => ?_)) | (refine mono_at (fun _ => ?_)) | split))) (by omega) (by omega)
    refine mm_callV (As := [.ref a1, .ref a2]) (rest := [.ref q_14, .ref q_14]) ⟨hx, hb, hml, hown, hts⟩ hE hST hA (c_X30_areSame l Z htr ad T (SizeOf.sizeOf w1 + 1) w1 w2 c2 r3 M_27 pl a1 a2 (Nat.lt_succ_self _) (hz9.K ((hx4.trans e42).K hpl)) hp2 (by omega) (cr.mono (((mm_Kp.rf _).trans kz_23).trans (mm_Exp.K hxx2 hc_19)) _ _ _ _ hw1) hw2 hx3') (cwV 2 hts (lw_V q1887 q1889 qs24 q103 q1890) rfl rfl rfl (by decide +kernel) ⟨(by (try dsimp only); omega), (by (try dsimp only); omega)⟩) hM hS mm_cX30 hp2 rfl hl.1 (Nat.le_of_ble_eq_true rfl) dX30_act_530 rfl ⟨(by (try dsimp only); omega), (by (try dsimp only); omega)⟩ ?_ (fun v_32 M_33 H locs hp_34 hM hS => ?_)
    · intro E ce q9 M9 H1 locs1 hp9 hM9 hS9 hce hcv hcl
      obtain ⟨rfl, rfl, h8, h7⟩ := hp9
      have hu9 : us c2 (none : Option (Bool × Nat)) = 1001 - c2 := rfl
      exact mm_outx htab hlk hM9 hS9 hce hcv hcl ⟨hro3.2.1 rfl, rfl, h8, (hx4.trans e42).trans h7⟩ (by (try dsimp only); omega) (by (try dsimp only); omega)
    obtain ⟨bb, c3, rfl, rfl, hp3', hxx3⟩ := hp_34
    obtain ⟨hpe3', hca3, hcb3⟩ := hro3.2.2 bb c3 rfl
    have hu9 : us c2 (some (bb, c3)) = c3 - c2 := rfl
    have e43 := e42.trans hxx3
    have hc_35 := hxx3.at hp2 hc_29 (by decide)
    cases bb
    · skip
      refine lv_if_eq (tgt := 540) hx hb dX30_act_533 (by decide) (fun _ => ?_) (fun h9 => absurd (by decide) h9)
      refine lv_iconst (v := 0) hx hb dX30_act_540 (by decide) ?_
      refine mm_callI (As := [.int 0]) (rest := [.ref q_14]) ⟨hx, hb, hml, hown, hts⟩ hE hST hA (c_X33_init l Z (M := M_33) (h0 := q_14) (x1 := 0) hc_35) (cwI (maxL := 2) 1 hts (lw_meth q1827) rfl rfl rfl (hts _ q106) (hts _ q1825) (hts _ q1826) rfl (by decide +kernel) ⟨(by (try dsimp only); omega), (by (try dsimp only); omega)⟩) hM hS rfl hl.1 (Nat.le_of_ble_eq_true rfl) dX30_act_541 rfl ⟨(by (try dsimp only); omega), (by (try dsimp only); omega)⟩ (fun _ _ _ _ _ _ h9 => h9.elim) (fun v_36 M_37 H locs hp_38 hM hS => ?_)
      obtain ⟨rfl, eM_37⟩ := hp_38
      rw [eM_37] at hM
      replace hM : mm_P Z.1 mm_cl A (mm_U M_33 q_14 (.inr (27, [.int 0]))) H := hM
      have hc_39 : (mm_U M_33 q_14 (.inr (27, [.int 0]))) q_14 = some (.inr (27, [.int 0])) := mm_U_eq
      have hc_40 : (mm_U M_33 q_14 (.inr (27, [.int 0]))) pl = some (.inr (25, [.int (nI c3)])) := (mm_U_ne ne_15).trans hp3'
      obtain ⟨M_41, eM_41⟩ : ∃ z, z = mm_U M_33 q_14 (.inr (27, [.int 0])) := ⟨_, rfl⟩
      rw [← eM_41] at hM hc_39 hc_40
      have e4_42 : mm_Exp pl M_5 M_41 := by rw [eM_41]; exact e43.put hz_24
      obtain rfl : res = some (.natCast 0, c3) := (Option.some.inj hpe3').symm
      exact mm_reta hx hb hr (Or.inl ⟨_, rfl⟩) (Or.inr ⟨_, rfl⟩) hlk hM hS ⟨.natCast 0, c3, q_14, rfl, rfl, by simp only [cr]; exact ⟨_, rfl, hc_39⟩, hc_40, hx4.trans e4_42⟩ dX30_act_544 (by (try dsimp only [us]); omega) (by (try dsimp only [us]); omega)
    · skip
      refine lv_if_eq (tgt := 540) hx hb dX30_act_533 (by decide) (fun h9 => absurd h9 (by decide)) (fun _ => ?_)
      refine lv_iconst (v := 1) hx hb dX30_act_536 (by decide) ?_
      refine lv_goto (tgt := 541) hx hb dX30_act_537 (by decide) ?_
      refine mm_callI (As := [.int 1]) (rest := [.ref q_14]) ⟨hx, hb, hml, hown, hts⟩ hE hST hA (c_X33_init l Z (M := M_33) (h0 := q_14) (x1 := 1) hc_35) (cwI (maxL := 2) 1 hts (lw_meth q1827) rfl rfl rfl (hts _ q106) (hts _ q1825) (hts _ q1826) rfl (by decide +kernel) ⟨(by (try dsimp only); omega), (by (try dsimp only); omega)⟩) hM hS rfl hl.1 (Nat.le_of_ble_eq_true rfl) dX30_act_541 rfl ⟨(by (try dsimp only); omega), (by (try dsimp only); omega)⟩ (fun _ _ _ _ _ _ h9 => h9.elim) (fun v_36 M_37 H locs hp_38 hM hS => ?_)
      obtain ⟨rfl, eM_37⟩ := hp_38
      rw [eM_37] at hM
      replace hM : mm_P Z.1 mm_cl A (mm_U M_33 q_14 (.inr (27, [.int 1]))) H := hM
      have hc_39 : (mm_U M_33 q_14 (.inr (27, [.int 1]))) q_14 = some (.inr (27, [.int 1])) := mm_U_eq
      have hc_40 : (mm_U M_33 q_14 (.inr (27, [.int 1]))) pl = some (.inr (25, [.int (nI c3)])) := (mm_U_ne ne_15).trans hp3'
      obtain ⟨M_41, eM_41⟩ : ∃ z, z = mm_U M_33 q_14 (.inr (27, [.int 1])) := ⟨_, rfl⟩
      rw [← eM_41] at hM hc_39 hc_40
      have e4_42 : mm_Exp pl M_5 M_41 := by rw [eM_41]; exact e43.put hz_24
      obtain rfl : res = some (.natCast 1, c3) := (Option.some.inj hpe3').symm
      exact mm_reta hx hb hr (Or.inl ⟨_, rfl⟩) (Or.inr ⟨_, rfl⟩) hlk hM hS ⟨.natCast 1, c3, q_14, rfl, rfl, by simp only [cr]; exact ⟨_, rfl, hc_39⟩, hc_40, hx4.trans e4_42⟩ dX30_act_544 (by (try dsimp only [us]); omega) (by (try dsimp only [us]); omega)
  rw [if_neg hk14] at hpe4
  cases hpe4
