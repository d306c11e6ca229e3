/-! ===== has; Flat.some ===== -/
set_option maxRecDepth 100000
/-- as uXR, the types as they lie there -/
def uXG (Z : mm_G) (M : mm_M) (L : List Nat) (vr : Nat → Nat) (n : Nat) (g : Nat → Option ev) (xs : List (Option Nat)) : Prop := xs.length = 10 ∧ ∀ l, l < 10 → (g l = none ∧ xs[l]? = some none) ∨ ∃ x ad, g l = some x ∧ xs[l]? = some (some ad) ∧ tp Z M L vr n x false ad
theorem uXR.G {Z : mm_G} {M : mm_M} {L : List Nat} {vr : Nat → Nat} {S : ts} {f : Nat → Option ev} {xs : List (Option Nat)} (h : uXR Z M L vr S f xs) : ∃ g, uXG Z M L vr S.1 g xs ∧ ∀ l, l < 10 → f l = (g l).map (uap S.2.1) := by
  have h1 : ∀ l : Nat, ∃ o : Option ev, l < 10 → ((o = none ∧ xs[l]? = some none) ∨ ∃ x ad, o = some x ∧ xs[l]? = some (some ad) ∧ tp Z M L vr S.1 x false ad) ∧ f l = o.map (uap S.2.1) := by
    intro l
    by_cases hl : l < 10
    · rcases h.2 l hl with ⟨h2, h3⟩ | ⟨x, ad, h2, h3, h4⟩
      · exact ⟨none, fun _ => ⟨Or.inl ⟨rfl, h3⟩, h2⟩⟩
      · exact ⟨some x, fun _ => ⟨Or.inr ⟨x, ad, rfl, h3, h4⟩, h2⟩⟩
    · exact ⟨none, fun h9 => absurd h9 hl⟩
  exact ⟨fun l => (h1 l).choose, ⟨h.1, fun l hl => ((h1 l).choose_spec hl).1⟩, fun l hl => ((h1 l).choose_spec hl).2⟩
theorem uXG.mono {Z : mm_G} {M M' : mm_M} {L L' : List Nat} {vr vr' : Nat → Nat} {n n' : Nat} {g : Nat → Option ev} {xs : List (Option Nat)} (h : uXG Z M L vr n g xs) (hK : uK M M') (hL : ∀ a ∈ L, a ∈ L') (hv : ∀ v, v < n → vr' v = vr v) (hn : n ≤ n') : uXG Z M' L' vr' n' g xs := by
  refine ⟨h.1, fun l hl => ?_⟩
  rcases h.2 l hl with h1 | ⟨x, ad, h1, h2, h3⟩
  · exact Or.inl h1
  · exact Or.inr ⟨x, ad, h1, h2, tp.mono hK hL hv hn _ _ _ h3⟩
theorem usome_cg {f g : Nat → Option ev} {x : Int32} : ∀ (k : Nat) (e : ev), (∀ l, l < k → f l = g l) → usome f x e k = usome g x e k := by
  intro k
  induction k with
  | zero => intro e h; rfl
  | succ k ih =>
    intro e h
    unfold usome
    rw [h k (Nat.lt_succ_self _)]
    cases uhs x k <;> cases g k <;> exact ih _ (fun l hl => h l (by omega))
theorem usome_cgu {s : Nat → ev} {f g : Nat → Option ev} {x : Int32} : ∀ (k : Nat) (e1 e2 : ev), (∀ l, l < k → (f l).map (uap s) = (g l).map (uap s)) → uap s e1 = uap s e2 → uap s (usome f x e1 k) = uap s (usome g x e2 k) := by
  intro k
  induction k with
  | zero => intro e1 e2 h he; exact he
  | succ k ih =>
    intro e1 e2 h he
    have h1 := h k (Nat.lt_succ_self _)
    unfold usome
    cases uhs x k with
    | false => exact ih _ _ (fun l hl => h l (by omega)) he
    | true =>
      cases hf : f k with
      | none =>
        rw [hf] at h1
        cases hg : g k with
        | none => exact ih _ _ (fun l hl => h l (by omega)) he
        | some y => rw [hg] at h1; cases h1
      | some y =>
        rw [hf] at h1
        cases hg : g k with
        | none => rw [hg] at h1; cases h1
        | some z =>
          rw [hg] at h1
          refine ih _ _ (fun l hl => h l (by omega)) ?_
          have h2 : uap s y = uap s z := Option.some.inj h1
          show uins k (uap s y) (uap s e1) = uins k (uap s z) (uap s e2)
          rw [h2, he]

set_option maxHeartbeats 4000000 in
set_option maxRecDepth 100000 in
theorem c_X1_has (l : Launch) (Z : mm_G) {M : mm_M} {st9 : Int32} {k : Nat} : mm_C l Z yX1_has (ws_ yX1_has cX1_has 2 (some .boolean)) { frames := 0, cells := 0, slots := 0, locals := 0 } [.int st9, .int (nI k)] M (fun v M' => v = some (.int (mm_b (uhs st9 k))) ∧ M' = M) mm_nx := by
  refine mm_ofW (cc := cX1_has) (maxL := 2) (ret := (some .boolean)) (by decide) rfl (Nat.le_of_ble_eq_true rfl) ?_
  intro p e s m below meth c A ls hx hb hr hlk hml hown hmn hts htab hE hST hA hM hS hl
  replace hl : lv_has ls 2 [(0, .int st9), (1, .int (nI k))] := hl
  refine lv_iload_n hx hb dX1_has_0 rfl (lv_at hl 0 rfl) ?_
  refine lv_iload_n hx hb dX1_has_1 rfl (lv_at hl 1 rfl) ?_
  refine lv_ishr hx hb dX1_has_2 ?_
  refine lv_iconst (v := 1) hx hb dX1_has_3 (by decide) ?_
  refine lv_iand hx hb dX1_has_4 ?_
  refine lv_if_eq (tgt := 12) hx hb dX1_has_5 (by decide) (fun c_1 => ?_) (fun c_1 => ?_)
  · skip
    have e9 : uhs st9 k = false := decide_eq_false (fun h9 => h9 c_1)
    refine lv_iconst (v := 0) hx hb dX1_has_12 (by decide) ?_
    refine W.eq (g2 := F0 m 13 ls [.int (mm_b (uhs st9 k))]) (by rw [e9]; rfl) ?_
    exact mm_retz hx hb hr (mm_b_nar _) hlk hM hS ⟨rfl, rfl⟩ dX1_has_13 (Nat.le_of_ble_eq_true rfl) (Nat.le_of_ble_eq_true rfl)
  · skip
    have e9 : uhs st9 k = true := decide_eq_true c_1
    refine lv_iconst (v := 1) hx hb dX1_has_8 (by decide) ?_
    refine lv_goto (tgt := 13) hx hb dX1_has_9 (by decide) ?_
    refine W.eq (g2 := F0 m 13 ls [.int (mm_b (uhs st9 k))]) (by rw [e9]; rfl) ?_
    exact mm_retz hx hb hr (mm_b_nar _) hlk hM hS ⟨rfl, rfl⟩ dX1_has_13 (Nat.le_of_ble_eq_true rfl) (Nat.le_of_ble_eq_true rfl)
set_option maxHeartbeats 4000000 in
set_option maxRecDepth 100000 in
theorem d_X22_some (l : Launch) (Z : mm_G) {M : mm_M} {L : List Nat} {vr : Nat → Nat} {n fa q ar rb : Nat} {tl : Option Nat} {lb st9 : Int32} {g : Nat → Option ev} {xs : List (Option Nat)} {er : ev} (hfa : M fa = some (fl_E (some q) tl lb)) (hAL : AL Z M q ar 10 xs) (hX : uXG Z M L vr n g xs) (hset : ∀ l, l < 10 → uhs st9 l = true → g l ≠ none) (htp : tp Z M L vr n er true rb) (hrb : unext M rb = none) : mm_D l Z yX22_some (ws_ yX22_some cX22_some 5 (some (.object "RowenTongue$Row"))) { frames := 6, cells := 10, slots := 30, locals := 240 } [.ref fa, .int st9, .ref rb] M (fun v9 M' n9 k9 => ∃ rr, v9 = some (.ref rr) ∧ n9 ≤ 10 ∧ k9 ≤ 30 ∧ mm_Ext M M' ∧ tp Z M' L vr n (usome g st9 er 10) true rr ∧ unext M' rr = none) mm_nx := by
  refine mm_ofWD (cc := cX22_some) (maxL := 5) (ret := (some (.object "RowenTongue$Row"))) (by decide) rfl (Nat.le_of_ble_eq_true rfl) ?_
  intro p e s m below meth c A ls hx hb hr hlk hml hown hmn hts htab hE hST hA hM hS hl
  replace hl : lv_has ls 5 [(0, .ref fa), (1, .int st9), (2, .ref rb)] := hl
  refine lv_aload_n hx hb dX22_some_0 rfl (lv_at hl 2 rfl) ?_
  refine lv_astore_n hx hb dX22_some_1 rfl hl (by decide) rfl (fun ls hl => ?_)
  replace hl : lv_has ls 5 [(3, .ref rb), (0, .ref fa), (1, .int st9), (2, .ref rb)] := hl
  refine lv_bipush (v := 9) hx hb dX22_some_2 (by decide) ?_
  refine lv_istore hx hb dX22_some_4 hl (by decide) rfl (fun ls hl => ?_)
  replace hl : lv_has ls 5 [(4, .int 9), (3, .ref rb), (0, .ref fa), (1, .int st9), (2, .ref rb)] := hl
  refine mm_loopW (fun k M' ls cells slots => ∃ (rr : Nat) (e2 : ev), k ≤ 10 ∧ lv_has ls 5 [(4, .int (nI k + (-1))), (3, .ref rr), (0, .ref fa), (1, .int st9), (2, .ref rb)] ∧ mm_Ext M M' ∧ tp Z M' L vr n e2 true rr ∧ usome g st9 e2 k = usome g st9 er 10 ∧ unext M' rr = none ∧ cells ≤ 10 - k ∧ slots ≤ 3 * (10 - k)) (fun k M1 ls H locs cells slots ih hI hM hS => ?_) (k := 10) ⟨rb, er, Nat.le_refl _, by rw [show (nI 10 + (-1) : Int32) = 9 from by decide]; exact lv_sub hl [0, 1, 2, 3, 4] rfl, mm_Ext.rf _, htp, rfl, hrb, by omega, by omega⟩ hM hS
  obtain ⟨rr, e2, hk9, hl, hex, ht2, hus, hur, hc9, hs9⟩ := hI
  cases k with
  | zero =>
    rw [show (nI 0 + (-1) : Int32) = -1 from by decide] at hl
    refine lv_iload hx hb dX22_some_6 (lv_at hl 0 rfl) ?_
    refine lv_if_lt (tgt := 53) hx hb dX22_some_8 (by decide) (fun c_1 => ?_) (fun c_1 => ?_)
    · skip
      refine lv_aload_n hx hb dX22_some_53 rfl (lv_at hl 1 rfl) ?_
      exact mm_retaD hx hb hr (Or.inl ⟨_, rfl⟩) (Or.inr ⟨_, rfl⟩) hlk hM hS ⟨rr, rfl, by omega, by omega, hex, by rw [← hus]; exact ht2, hur⟩ dX22_some_54 (by omega) (by omega)
    · skip
      exact absurd (by decide) c_1
  | succ k =>
    rw [nI_dec] at hl
    have hf1 := hex.at hfa
    have hA1 := hAL.ext hex
    obtain ⟨mdq, fqq, hq0, -⟩ := id hA1
    refine lv_iload hx hb dX22_some_6 (lv_at hl 0 rfl) ?_
    refine lv_if_lt (tgt := 53) hx hb dX22_some_8 (by decide) (fun c_1 => ?_) (fun c_1 => ?_)
    · skip
      exact absurd c_1 (nI_pos (by omega))
    · skip
      refine lv_iload_n hx hb dX22_some_11 rfl (lv_at hl 3 rfl) ?_
      refine lv_iload hx hb dX22_some_12 (lv_at hl 0 rfl) ?_
      refine mm_callSN (As := [.int st9, .int (nI k)]) (rest := []) ⟨hx, hb, hml, hown, hts⟩ hE hST hA (c_X1_has l Z (st9 := st9) (k := k)) ⟨va_cnB 2 hts (lw_meth q1163) rfl rfl rfl (hE.2.1 _ q1246 rfl) (hts _ q50) (by decide +kernel) ⟨(Nat.le_of_ble_eq_true rfl), (Nat.le_of_ble_eq_true rfl)⟩, hts _ q1162, trivial⟩ hM hS rfl hl.1 (Nat.le_of_ble_eq_true rfl) dX22_some_14 rfl ⟨(by (try dsimp only); omega), (by (try dsimp only); omega)⟩ (fun _ _ _ _ _ _ h9 => h9.elim) (fun v_2 M_3 H locs hp_4 hM hS => ?_)
      obtain ⟨rfl, eM_3⟩ := hp_4
      rw [eM_3] at hM
      refine lv_if_eq (tgt := 45) hx hb dX22_some_17 (by decide) (fun c_5 => ?_) (fun c_5 => ?_)
      · skip
        have hh : uhs st9 k = false := (mm_b_0 _).1 c_5
        refine lv_aload_n hx hb dX22_some_45 rfl (lv_at hl 1 rfl) ?_
        refine lv_astore_n hx hb dX22_some_46 rfl hl (by decide) rfl (fun ls hl => ?_)
        replace hl : lv_has ls 5 [(3, .ref rr), (4, .int (nI k)), (0, .ref fa), (1, .int st9), (2, .ref rb)] := hl
        obtain ⟨x_6, ex_6⟩ : ∃ z : Int32, z = (nI k) + (-1) := ⟨_, rfl⟩
        refine lv_iinc (v := x_6) (lv' := [(4, .int x_6), (3, .ref rr), (0, .ref fa), (1, .int st9), (2, .ref rb)]) hx hb dX22_some_47 hl (k := 1) rfl (by rw [ex_6]; rfl) (by decide) rfl (fun ls hl => ?_)
        rw [ex_6] at hl
        refine lv_goto (tgt := 6) hx hb dX22_some_50 (by decide) ?_
        refine ih k (Nat.lt_succ_self _) _ _ _ _ _ _ ⟨rr, e2, by omega, lv_sub hl [0, 1, 2, 3, 4] rfl, hex, ht2, by rw [← hus]; conv => rhs; unfold usome; rw [hh], hur, by (try dsimp only); omega, by (try dsimp only); omega⟩ hM hS
      · skip
        have hh : uhs st9 k = true := by cases h8 : uhs st9 k with | true => rfl | false => exact absurd ((mm_b_0 _).2 h8) c_5
        rcases hX.2 k (by omega) with ⟨h9, -⟩ | ⟨x9, ad9, hg9, hx9, ht9⟩
        · skip
          exact absurd h9 (hset k (by omega) hh)
        · skip
          refine mm_new (D := Z.1) (ci := 11) (fs := mm_f0X14) (C := RX14) (T := TX14) (N := 3) hx hb hts in_X14 tyX14 tyX14_ok hown (hts _ q1203) (hts _ q882) (hts _ q81) hE.1 hM hS hA mm_cX14 mm_dfX14 (by (try dsimp only); omega) (by (try dsimp only); omega) dX22_some_20 (fun q_7 H nq_6 hM hS => ?_)
          have hM : mm_P Z.1 mm_cl A (mm_U M1 q_7 (.inr (11, [.int 0, .null, .null]))) H := hM
          have ne_8 : fa ≠ q_7 := (mm_neN hf1 nq_6)
          have ne_9 : q ≠ q_7 := (mm_neN hq0 nq_6)
          have hc_10 : (mm_U M1 q_7 (.inr (11, [.int 0, .null, .null]))) q_7 = some (.inr (11, [.int 0, .null, .null])) := mm_U_eq
          have hc_11 : (mm_U M1 q_7 (.inr (11, [.int 0, .null, .null]))) fa = some (.inr (17, [.ref q, va_rf tl, .int lb])) := (mm_U_ne ne_8).trans hf1
          have hc_12 : (mm_U M1 q_7 (.inr (11, [.int 0, .null, .null]))) q = some (.inr (41, [.int mdq, .ref ar, .int (nI xs.length)])) := (mm_U_ne ne_9).trans hq0
          obtain ⟨M_13, eM_13⟩ : ∃ z, z = mm_U M1 q_7 (.inr (11, [.int 0, .null, .null])) := ⟨_, rfl⟩
          rw [← eM_13] at hM hc_11 hc_12 hc_10
          have hex2 : mm_Ext M M_13 := hex.trans (by rw [eM_13]; exact mm_Ext.U nq_6)
          have hA2 := hAL.ext hex2
          refine lv_dup hx hb dX22_some_23 rfl ?_
          refine lv_iload hx hb dX22_some_24 (lv_at hl 0 rfl) ?_
          refine lv_aload_n hx hb dX22_some_26 rfl (lv_at hl 2 rfl) ?_
          refine va_get (D := Z.1) (ci := 17) (v := .ref q) (C := RX22) (T := TX22) (N := 3) hx hb hts in_X22 hown hE.1 (hM.at hc_11) 0 rfl mm_cX22 0 (by decide) (hts _ q1210) (fun _ h9 => h9) rfl dX22_some_27 ?_
          refine lv_iload hx hb dX22_some_30 (lv_at hl 0 rfl) ?_
          refine mm_callV (As := [.int (nI k)]) (rest := [.int (nI k), .ref q_7, .ref q_7]) ⟨hx, hb, hml, hown, hts⟩ hE hST hA (c_J2_get l Z (i := k) hA2 (by rw [hX.1]; omega)) (cwV 1 hts (lw_V q1247 q500 q501 q53 q502) rfl rfl rfl (by decide +kernel) ⟨(Nat.le_of_ble_eq_true rfl), (Nat.le_of_ble_eq_true rfl)⟩) hM hS mm_cJ2 hc_12 rfl hl.1 (Nat.le_of_ble_eq_true rfl) dX22_some_32 rfl ⟨(by (try dsimp only); omega), (by (try dsimp only); omega)⟩ (fun _ _ _ _ _ _ h9 => h9.elim) (fun v_14 M_15 H locs hp_16 hM hS => ?_)
          obtain ⟨⟨r9, hr9, rfl⟩, eM_15⟩ := hp_16
          rw [eM_15] at hM
          obtain rfl : r9 = some ad9 := Option.some.inj (hr9.symm.trans hx9)
          refine W.eq (g2 := F0 m 35 ls [.ref ad9, .int (nI k), .ref q_7, .ref q_7]) rfl ?_
          refine mm_cutR (b := ad9) (pc2 := 38) (ls := ls) (rest := [.int (nI k), .ref q_7, .ref q_7]) (M := M_13) (fun kk9 => ?_) (fun H locs hM hS => ?_) hM hS
          · skip
            obtain ⟨sm9, hq9⟩ : ∃ sm9, ct_at M_13 ad9 sm9 := ⟨_, (ht9.light hex2.uL).ct⟩
            rcases hq9 with ⟨lv9, lk9, hq9⟩ | ⟨f9, t9, b9, r9, hq9⟩ | ⟨i9, w9, b9, r9, hq9⟩ | ⟨rfl, hq9⟩
            · skip
              refine va_castY (C := RX11) hx hb hown (hts _ q1208) (hE.2.1 _ q2869 rfl) (mm_recv hE hM mm_cX11 hq9) dX22_some_35 ?_
              exact kk9 _ _ hM hS
            · skip
              refine va_castY (C := RX12) hx hb hown (hts _ q1208) (hE.2.1 _ q2867 rfl) (mm_recv hE hM mm_cX12 hq9) dX22_some_35 ?_
              exact kk9 _ _ hM hS
            · skip
              refine va_castY (C := RX8) hx hb hown (hts _ q1208) (hE.2.1 _ q2866 rfl) (mm_recv hE hM mm_cX8 hq9) dX22_some_35 ?_
              exact kk9 _ _ hM hS
            · skip
              refine va_castY (C := "RowenTongue$Numbers") hx hb hown (hts _ q1208) (hE.2.1 _ q2868 rfl) (mm_recv hE hM mm_cE1 hq9) dX22_some_35 ?_
              exact kk9 _ _ hM hS
          refine lv_aload_n hx hb dX22_some_38 rfl (lv_at hl 1 rfl) ?_
          refine mm_callI (As := [.int (nI k), .ref ad9, .ref rr]) (rest := [.ref q_7]) ⟨hx, hb, hml, hown, hts⟩ hE hST hA (c_X14_init l Z (M := M_13) (h0 := q_7) (x1 := (nI k)) (x2 := (some ad9)) (x3 := (some rr)) hc_10) (cwI (maxL := 4) 3 hts (lw_meth q885) rfl rfl rfl (hts _ q81) (hts _ q1248) (hts _ q884) rfl (by decide +kernel) ⟨(Nat.le_of_ble_eq_true rfl), (Nat.le_of_ble_eq_true rfl)⟩) hM hS rfl hl.1 (Nat.le_of_ble_eq_true rfl) dX22_some_39 rfl ⟨(by (try dsimp only); omega), (by (try dsimp only); omega)⟩ (fun _ _ _ _ _ _ h9 => h9.elim) (fun v_17 M_18 H locs hp_19 hM hS => ?_)
          obtain ⟨rfl, eM_18⟩ := hp_19
          rw [eM_18] at hM
          replace hM : mm_P Z.1 mm_cl A (mm_U M_13 q_7 (.inr (11, [.int (nI k), .ref ad9, .ref rr]))) H := hM
          have hc_20 : (mm_U M_13 q_7 (.inr (11, [.int (nI k), .ref ad9, .ref rr]))) q_7 = some (.inr (11, [.int (nI k), .ref ad9, .ref rr])) := mm_U_eq
          have hc_21 : (mm_U M_13 q_7 (.inr (11, [.int (nI k), .ref ad9, .ref rr]))) fa = some (.inr (17, [.ref q, va_rf tl, .int lb])) := (mm_U_ne ne_8).trans hc_11
          have hc_22 : (mm_U M_13 q_7 (.inr (11, [.int (nI k), .ref ad9, .ref rr]))) q = some (.inr (41, [.int mdq, .ref ar, .int (nI xs.length)])) := (mm_U_ne ne_9).trans hc_12
          obtain ⟨M_23, eM_23⟩ : ∃ z, z = mm_U M_13 q_7 (.inr (11, [.int (nI k), .ref ad9, .ref rr])) := ⟨_, rfl⟩
          rw [← eM_23] at hM hc_21 hc_22 hc_20
          have hex3 : mm_Ext M M_23 := by rw [eM_23]; intro q9 h9; rw [mm_U_ne (show q9 ≠ q_7 from fun h8 => h9 (by rw [h8]; exact hex.none nq_6)), hex2 q9 h9]
          have hexB : mm_Ext M1 M_23 := by subst eM_23 eM_13; (try rw [mm_U_U]); exact mm_Ext.U nq_6
          have htn : tp Z M_23 L vr n (.add (.pow x9 k) e2) true q_7 := by simp only [tp]; exact ⟨ad9, rr, by omega, hc_20, ht9.light hex3.uL, ht2.light hexB.uL⟩
          refine lv_goto (tgt := 46) hx hb dX22_some_42 (by decide) ?_
          refine lv_astore_n hx hb dX22_some_46 rfl hl (by decide) rfl (fun ls hl => ?_)
          replace hl : lv_has ls 5 [(3, .ref q_7), (4, .int (nI k)), (0, .ref fa), (1, .int st9), (2, .ref rb)] := hl
          obtain ⟨x_24, ex_24⟩ : ∃ z : Int32, z = (nI k) + (-1) := ⟨_, rfl⟩
          refine lv_iinc (v := x_24) (lv' := [(4, .int x_24), (3, .ref q_7), (0, .ref fa), (1, .int st9), (2, .ref rb)]) hx hb dX22_some_47 hl (k := 1) rfl (by rw [ex_24]; rfl) (by decide) rfl (fun ls hl => ?_)
          rw [ex_24] at hl
          refine lv_goto (tgt := 6) hx hb dX22_some_50 (by decide) ?_
          refine ih k (Nat.lt_succ_self _) _ _ _ _ _ _ ⟨q_7, (.add (.pow x9 k) e2), by omega, lv_sub hl [0, 1, 2, 3, 4] rfl, hex3, htn, by rw [← hus]; conv => rhs; unfold usome; rw [hh, hg9], unext_ce (w := some ad9) (sm := some rr) hc_20, by (try dsimp only); omega, by (try dsimp only); omega⟩ hM hS
