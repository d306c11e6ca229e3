/-! ===== join ===== -/
set_option maxRecDepth 100000
theorem umi_min (x y : Int32) : (if y < x then y else x) = umi x y := by
  unfold umi
  by_cases h : x < y
  · rw [if_pos h, if_neg (fun h2 => Int32.lt_irrefl (Int32.lt_trans h h2))]
  · by_cases h2 : y < x
    · rw [if_pos h2, if_neg h]
    · rw [if_neg h2, if_neg h]; exact Int32.le_antisymm (Int32.not_lt.1 h2) (Int32.not_lt.1 h)
theorem AL.uK {Z : mm_G} {M M' : mm_M} {a ar cap : Nat} {xs : List (Option Nat)} (h : AL Z M a ar cap xs) (hK : uK M M') : AL Z M' a ar cap xs := by
  obtain ⟨md, f, h1, h2, h3⟩ := h
  exact ⟨md, f, hK.atC h1 (by decide), hK.atA h2, h3⟩
theorem tClose_cg {S : ts} {v : Nat} {r r' : ev} (h : uap S.2.1 r = uap S.2.1 r') : tClose S v r = tClose S v r' := by unfold tClose; rw [h]
theorem tClose_le {S S' : ts} {v : Nat} {r : ev} (hok : ts_ok S) (h : tClose S v r = .inr S') : ts_le S S' := by
  unfold tClose at h
  split at h
  · cases h
  · cases h
    exact ts_put_le (S := ts_lev S (S.2.2.2.2 v) (uap S.2.1 r)) hok
theorem tLike_eq {S S' : ts} {T : ev} (h : tLike S T = .inr S') : S' = ts_like S T := by
  unfold tLike at h
  split at h
  · cases h
  · cases h; rfl
/-- a Flat: its types f, its end -/
def uFA (Z : mm_G) (M : mm_M) (L : List Nat) (vr : Nat → Nat) (S : ts) (fa : Nat) (f : Nat → Option ev) (lb : Int32) (en : Option Nat) : Prop := ∃ (q ar : Nat) (xs : List (Option Nat)), M fa = some (fl_E (some q) (en.map vr) lb) ∧ AL Z M q ar 10 xs ∧ uXR Z M L vr S f xs ∧ ∀ w, en = some w → w < S.1 ∧ tp Z M L vr S.1 (.var w) true (vr w) ∧ unext M (vr w) = none
theorem uCI.cellR {Z : mm_G} {M : mm_M} {L : List Nat} {vr : Nat → Nat} {S : ts} (hC : uCI Z M L vr S) {v : Nat} (ht : tp Z M L vr S.1 (.var v) true (vr v)) : ∃ bd, M (vr v) = some (cr_E bd (S.2.2.2.2 v) (S.2.2.1 v) (S.2.2.2.1 v)) := by
  have ht2 := ht
  simp only [tp] at ht
  obtain ⟨hv, -, -, bd, lv, lk, lc, h1⟩ := ht
  rcases (hC.2.1 v hv).2 with ⟨bd2, h2, -⟩ | ⟨bd2, h2, -⟩
  · rw [h1] at h2; simp at h2
  · exact ⟨bd2, h2⟩
/-- join is done with this -/
def jP (Z : mm_G) (M : mm_M) (L : List Nat) (vr : Nat → Nat) (S : ts) (r : te) (e1 e2 : Option Nat) : Option Value → mm_M → Nat → Nat → Prop := fun v9 M' n9 k9 => v9 = none ∧ n9 ≤ 27 ∧ k9 ≤ 70 ∧ ∃ S' L' vr', r = .inr S' ∧ uK M M' ∧ uCI Z M' L' vr' S' ∧ (∀ a ∈ L, a ∈ L') ∧ (∀ v, v < S.1 → vr' v = vr v) ∧ S.1 ≤ S'.1 ∧ uPhi M' L' + 1 ≤ uPhi M L ∧ L'.length ≤ L.length + 1 ∧ ts_le S S' ∧ uNw M' L L' ∧ ∀ z, M z ≠ none → (∀ u, e1 = some u ∨ e2 = some u → z ≠ vr u) → unext M' z = unext M z

set_option maxHeartbeats 4000000 in
set_option maxRecDepth 100000 in
theorem d_X1_join_1 (l : Launch) (Z : mm_G) {M : mm_M} (htr : l.stackTraces = false) {L : List Nat} {vr : Nat → Nat} {S : ts} {f1 f2 : Nat → Option ev} {own its lb1 lb2 : Int32} {one other : Nat} (hC : uCI Z M L vr S) (hs1 : ∀ l, l < 10 → uhs own l = true → f1 l ≠ none) (hs2 : ∀ l, l < 10 → uhs its l = true → f2 l ≠ none) {v Hh b9 : Nat} (h1 : uFA Z M L vr S one f1 lb1 (some v)) (h2 : uFA Z M L vr S other f2 lb2 none) (hB9 : uB Z M L vr S b9) (hH9 : 2 * b9 + 3 ≤ Hh) : mm_D l Z yX1_join (ws_ yX1_join cX1_join 5 none) { frames := Hh + L.length + 21, cells := 31, slots := 100, locals := 25 * Hh + 20 * L.length + 920 } [.ref one, .ref other, .int own, .int its] M (jP Z M L vr S (tJoin S f1 f2 (some v) none own its) (some v) none) (fun E q M' => ∃ er, (tJoin S f1 f2 (some v) none own its) = .inl er ∧ uX M er E q M') := by
  refine mm_ofWD (cc := cX1_join) (maxL := 5) (ret := none) (by decide) rfl (Nat.le_of_ble_eq_true rfl) ?_
  intro p e s m below meth c A ls hx hb hr hlk hml hown hmn hts htab hE hST hA hM hS hl
  replace hl : lv_has ls 5 [(0, .ref one), (1, .ref other), (2, .int own), (3, .int its)] := hl
  obtain ⟨q1, ar1, xs1, hf1, hA1, hX1, ht1⟩ := h1
  obtain ⟨q2, ar2, xs2, hf2, hA2, hX2, ht2⟩ := h2
  obtain ⟨hv, htv, hnv⟩ := ht1 v rfl
  obtain ⟨hcv, hsv⟩ := hC.rootR hv htv hnv
  obtain ⟨g9, hG9, hfg9⟩ := hX2.G
  have hz0 : tp Z M L vr S.1 (.natCast 0) true (Z.2.2.1 1) := by unfold tp; exact ⟨rfl, rfl, hC.2.2.2.2.2⟩
  have hzn : unext M (Z.2.2.1 1) = none := unext_cz hC.2.2.2.2.2
  refine va_gets hx hb (hST.1 _ (List.mem_of_getElem? (i := 1) rfl)) hS hown (hts _ q1238) (fun _ h9 => h9) dX1_join_0 ?_
  refine lv_astore hx hb dX1_join_3 hl (by decide) rfl (fun ls hl => ?_)
  replace hl : lv_has ls 5 [(4, .ref (Z.2.2.1 1)), (0, .ref one), (1, .ref other), (2, .int own), (3, .int its)] := hl
  refine lv_aload_n hx hb dX1_join_5 rfl (lv_at hl 1 rfl) ?_
  refine va_getN (D := Z.1) (ci := 17) (v := .ref (vr v)) (C := RX22) (T := TX22) (N := 3) hx hb hts in_X22 hown hE.1 (hM.at hf1) 0 rfl mm_cX22 1 (by decide) (va_Nw.use rfl (hE.2.1 _ q1217 rfl)) (fun _ h9 => h9) rfl dX1_join_6 ?_
  refine lv_ifnull hx hb dX1_join_9 ?_
  refine lv_aload_n hx hb dX1_join_12 rfl (lv_at hl 2 rfl) ?_
  refine va_getN (D := Z.1) (ci := 17) (v := .null) (C := RX22) (T := TX22) (N := 3) hx hb hts in_X22 hown hE.1 (hM.at hf2) 0 rfl mm_cX22 1 (by decide) (va_Nw.use rfl (hE.2.1 _ q1217 rfl)) (fun _ h9 => h9) rfl dX1_join_13 ?_
  refine lv_ifnullN (tgt := 85) hx hb dX1_join_16 (by decide) ?_
  refine lv_aload_n hx hb dX1_join_85 rfl (lv_at hl 2 rfl) ?_
  refine va_getN (D := Z.1) (ci := 17) (v := .null) (C := RX22) (T := TX22) (N := 3) hx hb hts in_X22 hown hE.1 (hM.at hf2) 0 rfl mm_cX22 1 (by decide) (va_Nw.use rfl (hE.2.1 _ q1217 rfl)) (fun _ h9 => h9) rfl dX1_join_86 ?_
  refine lv_ifnullN (tgt := 106) hx hb dX1_join_89 (by decide) ?_
  refine lv_aload_n hx hb dX1_join_106 rfl (lv_at hl 1 rfl) ?_
  refine va_getN (D := Z.1) (ci := 17) (v := .ref (vr v)) (C := RX22) (T := TX22) (N := 3) hx hb hts in_X22 hown hE.1 (hM.at hf1) 0 rfl mm_cX22 1 (by decide) (va_Nw.use rfl (hE.2.1 _ q1217 rfl)) (fun _ h9 => h9) rfl dX1_join_107 ?_
  refine lv_ifnull hx hb dX1_join_110 ?_
  refine lv_aload_n hx hb dX1_join_113 rfl (lv_at hl 1 rfl) ?_
  refine va_getN (D := Z.1) (ci := 17) (v := .ref (vr v)) (C := RX22) (T := TX22) (N := 3) hx hb hts in_X22 hown hE.1 (hM.at hf1) 0 rfl mm_cX22 1 (by decide) (va_Nw.use rfl (hE.2.1 _ q1217 rfl)) (fun _ h9 => h9) rfl dX1_join_114 ?_
  refine lv_aload_n hx hb dX1_join_117 rfl (lv_at hl 2 rfl) ?_
  refine lv_iload_n hx hb dX1_join_118 rfl (lv_at hl 4 rfl) ?_
  refine lv_aload hx hb dX1_join_119 (lv_at hl 0 rfl) ?_
  refine mm_callVD (As := [.int its, .ref (Z.2.2.1 1)]) (rest := [.ref (vr v)]) ⟨hx, hb, hml, hown, hts⟩ hE hST hA (d_X22_some l Z (er := .natCast 0) (rb := Z.2.2.1 1) hf2 hA2 hG9 (fun l hl h9 h8 => hs2 l hl h9 (by rw [hfg9 l hl, h8]; rfl)) hz0 hzn) (cwV 2 hts (lw_V q1242 q1243 q1244 q90 q1245) rfl rfl rfl (by decide +kernel) ⟨(by (try dsimp only); omega), (by (try dsimp only); omega)⟩) hM hS mm_cX22 hf2 rfl hl.1 (Nat.le_of_ble_eq_true rfl) dX1_join_121 rfl ⟨(by (try dsimp only); omega), (by (try dsimp only); omega)⟩ (fun _ _ _ _ _ _ h9 => h9.elim) (fun v_1 M_2 n_4 k_5 H locs hp_3 hM hS => ?_)
  obtain ⟨rr, rfl, hn1, hk1, hex2, htr2, hur⟩ := hp_3
  have hc_6 := hex2.at hf1
  have hc_7 := hex2.at hf2
  have hc_8 := hex2.at hcv
  have hC2 := hC.lite hex2
  have hseen : uap S.2.1 (usome g9 its (.natCast 0) 10) = uap S.2.1 (usome f2 its (.natCast 0) 10) := usome_cgu 10 _ _ (fun l hl => by rw [hfg9 l hl, Option.map_map]; congr 1; funext t9; exact (hC.1.1.le t9).symm) rfl
  have hcg : tClose S v (usome g9 its (.natCast 0) 10) = tClose S v (usome f2 its (.natCast 0) 10) := tClose_cg hseen
  have hH : uh (uap S.2.1 (usome g9 its (.natCast 0) 10)) ≤ Hh := by have h9 := hC2.heightB (hB9.go hC hC2 hex2.uK (fun _ h => h) (fun _ _ => rfl) (Nat.le_refl _) hC.1.1.le (fun a h1 h2 => absurd h1 h2)) htr2; simp only [Bool.toNat_true] at h9; omega
  have hJ : tJoin S f1 f2 (some v) none own its = te_b (tClose S v (usome f2 its (.natCast 0) 10)) fun S1 => if S1.2.2.1 v then tLike S1 (S1.2.1 v) else .inr S1 := rfl
  rw [← hcg] at hJ
  refine mm_callSD (As := [.ref (vr v), .ref rr]) (rest := []) ⟨hx, hb, hml, hown, hts⟩ hE hST hA (d_X1_close l Z htr (S := S) (v := v) (t := usome g9 its (.natCast 0) 10) rfl hC2 hv hc_8 htr2 hur) (va_cwS 2 hts (lw_S q1249 q1250 q50 q1251) rfl rfl rfl (by decide +kernel) ⟨(by (try dsimp only); omega), (by (try dsimp only); omega)⟩) hM hS rfl hl.1 (Nat.le_of_ble_eq_true rfl) dX1_join_124 rfl ⟨(by (try dsimp only); omega), (by (try dsimp only); omega)⟩ (fun E ce q M9 H1 locs1 hp9 hM9 hS9 hce hcv9 hcl => by obtain ⟨er9, he9, hx9⟩ := hp9; exact mm_outxD htab hlk hM9 hS9 hce hcv9 hcl ⟨er9, by rw [hJ, he9]; rfl, hx9.afterK hex2.uK⟩ (by (try dsimp only); omega) (by (try dsimp only); omega)) (fun v_9 M_10 n_12 k_13 H locs hp_11 hM hS => ?_)
  obtain ⟨rfl, hn2, hk2, S1, hS1, hK2, hC3, hS11, hP3, hx3⟩ := hp_11
  have hKK := hex2.uK.trans hK2
  rw [hS1] at hJ
  have hc_14 := hK2.atC hc_6 (by decide)
  have hc_15 := hK2.atC hc_7 (by decide)
  have hle1 := tClose_le hC.1.1 hS1
  have htv3 : tp Z M_10 L vr S1.1 (.var v) true (vr v) := by rw [hS11]; exact tp.mono hKK (fun _ h => h) (fun _ _ => rfl) (Nat.le_refl _) _ _ _ htv
  obtain ⟨bd3, hcv3⟩ := hC3.cellR htv3
  have hnx : ∀ z, M z ≠ none → z ≠ vr v → unext M_10 z = unext M z := fun z hz1 hz2 => by rw [hx3 z (by rw [hex2 z hz1]; exact hz1) hz2]; unfold unext; rw [hex2 z hz1]
  have hPM : uPhi M_2 L = uPhi M L := hex2.uL.phi hC.2.2.1
  have hT4 : uap S1.2.1 (.var v) = S1.2.1 v := rfl
  have hh4 : uh (S1.2.1 v) ≤ Hh := by
    have h9 : S1.2.1 v = uap S.2.1 (usome g9 its (.natCast 0) 10) := by
      unfold tClose at hS1
      split at hS1
      · cases hS1
      · cases hS1
        show uap (uon v _) (S.2.1 v) = _
        rw [hsv]
        show uon v _ v = _
        unfold uon; rw [if_pos rfl]
    rw [h9]; exact hH
  refine lv_aload_n hx hb dX1_join_127 rfl (lv_at hl 2 rfl) ?_
  refine va_getN (D := Z.1) (ci := 17) (v := .null) (C := RX22) (T := TX22) (N := 3) hx hb hts in_X22 hown hE.1 (hM.at hc_15) 0 rfl mm_cX22 1 (by decide) (va_Nw.use rfl (hE.2.1 _ q1217 rfl)) (fun _ h9 => h9) rfl dX1_join_128 ?_
  refine lv_ifnullN (tgt := 158) hx hb dX1_join_131 (by decide) ?_
  refine lv_aload_n hx hb dX1_join_158 rfl (lv_at hl 1 rfl) ?_
  refine va_getN (D := Z.1) (ci := 17) (v := .ref (vr v)) (C := RX22) (T := TX22) (N := 3) hx hb hts in_X22 hown hE.1 (hM.at hc_14) 0 rfl mm_cX22 1 (by decide) (va_Nw.use rfl (hE.2.1 _ q1217 rfl)) (fun _ h9 => h9) rfl dX1_join_159 ?_
  refine lv_ifnull hx hb dX1_join_162 ?_
  refine lv_aload_n hx hb dX1_join_165 rfl (lv_at hl 1 rfl) ?_
  refine va_getN (D := Z.1) (ci := 17) (v := .ref (vr v)) (C := RX22) (T := TX22) (N := 3) hx hb hts in_X22 hown hE.1 (hM.at hc_14) 0 rfl mm_cX22 1 (by decide) (va_Nw.use rfl (hE.2.1 _ q1217 rfl)) (fun _ h9 => h9) rfl dX1_join_166 ?_
  refine va_getN (D := Z.1) (ci := 12) (v := .int (mm_b (S1.2.2.1 v))) (C := RX15) (T := TX15) (N := 4) hx hb hts in_X15 hown hE.1 (hM.at hcv3) 0 rfl mm_cX15 2 (by decide) (va_Nw.use rfl (hE.2.1 _ q930 rfl)) (fun _ h9 => h9) rfl dX1_join_169 ?_
  refine lv_if_eq (tgt := 189) hx hb dX1_join_172 (by decide) (fun c_16 => ?_) (fun c_16 => ?_)
  · skip
    have hlk9 : S1.2.2.1 v = false := (mm_b_0 _).1 c_16
    exact mm_retvD hx hb hr hlk hM hS ⟨rfl, by (try dsimp only); omega, by (try dsimp only); omega, S1, L, vr, by rw [hJ]; show ((if S1.2.2.1 v then tLike S1 (S1.2.1 v) else .inr S1) : te) = _; rw [if_neg (by rw [hlk9]; decide)], hKK, hC3, fun _ h => h, fun _ _ => rfl, by omega, by omega, by omega, hle1, uNw.rf _ _, fun z hz1 hz2 => hnx z hz1 (hz2 v (Or.inl rfl))⟩ dX1_join_189 (by (try dsimp only); omega) (by (try dsimp only); omega)
  · skip
    have hlk9 : S1.2.2.1 v = true := by cases h8 : S1.2.2.1 v with | true => rfl | false => exact absurd ((mm_b_0 _).2 h8) c_16
    refine lv_aload_n hx hb dX1_join_175 rfl (lv_at hl 1 rfl) ?_
    refine va_getN (D := Z.1) (ci := 17) (v := .ref (vr v)) (C := RX22) (T := TX22) (N := 3) hx hb hts in_X22 hown hE.1 (hM.at hc_14) 0 rfl mm_cX22 1 (by decide) (va_Nw.use rfl (hE.2.1 _ q1217 rfl)) (fun _ h9 => h9) rfl dX1_join_176 ?_
    refine mm_new (D := Z.1) (ci := 50) (fs := []) (C := "RowenTongue$Likening") (T := mm_TE0) (N := 0) hx hb hts mm_inE0 (fun _ => .int) (fun k h => absurd h (Nat.not_lt_zero k)) hown (hts _ q1180) (hts _ q1181) (hts _ q89) hE.1 hM hS hA mm_cE0 (fun j h => absurd h (Nat.not_lt_zero j)) (by (try dsimp only); omega) (by (try dsimp only); omega) dX1_join_179 (fun q_18 H nq_17 hM hS => ?_)
    have hM : mm_P Z.1 mm_cl A (mm_U M_10 q_18 (.inr (50, []))) H := hM
    have ne_19 : one ≠ q_18 := (mm_neN hc_14 nq_17)
    have ne_20 : other ≠ q_18 := (mm_neN hc_15 nq_17)
    have ne_21 : (vr v) ≠ q_18 := (mm_neN hcv3 nq_17)
    have hc_22 : (mm_U M_10 q_18 (.inr (50, []))) q_18 = some (.inr (50, [])) := mm_U_eq
    have hc_23 : (mm_U M_10 q_18 (.inr (50, []))) one = some (.inr (17, [.ref q1, .ref (vr v), .int lb1])) := (mm_U_ne ne_19).trans hc_14
    have hc_24 : (mm_U M_10 q_18 (.inr (50, []))) other = some (.inr (17, [.ref q2, .null, .int lb2])) := (mm_U_ne ne_20).trans hc_15
    have hc_25 : (mm_U M_10 q_18 (.inr (50, []))) (vr v) = some (.inr (12, [va_rf bd3, .int (S1.2.2.2.2 v), .int (mm_b (S1.2.2.1 v)), .int (S1.2.2.2.1 v)])) := (mm_U_ne ne_21).trans hcv3
    obtain ⟨M_26, eM_26⟩ : ∃ z, z = mm_U M_10 q_18 (.inr (50, [])) := ⟨_, rfl⟩
    rw [← eM_26] at hM hc_23 hc_24 hc_25 hc_22
    refine lv_dup hx hb dX1_join_182 rfl ?_
    refine mm_callIN (As := []) (rest := [.ref q_18, .ref (vr v)]) ⟨hx, hb, hml, hown, hts⟩ hE hST hA (c_X21_init l Z (M := M_26) (h0 := q_18) hc_22) ⟨va_cnB 0 hts (lw_meth q1184) rfl rfl rfl (hE.2.1 _ q1182 rfl) (hts _ q89) (by decide +kernel) ⟨(by (try dsimp only); omega), (by (try dsimp only); omega)⟩, rfl, hts _ q1183⟩ hM hS rfl hl.1 (Nat.le_of_ble_eq_true rfl) dX1_join_183 rfl ⟨(by (try dsimp only); omega), (by (try dsimp only); omega)⟩ (fun _ _ _ _ _ _ h9 => h9.elim) (fun v_27 M_28 H locs hp_29 hM hS => ?_)
    obtain ⟨rfl, eM_28⟩ := hp_29
    rw [eM_28] at hM
    have hexL : mm_Ext M_10 M_26 := by subst eM_26; (try rw [mm_U_U]); exact mm_Ext.U nq_17
    have hC4 := hC3.lite hexL
    refine mm_callSD (As := [.ref (vr v), .ref q_18]) (rest := []) ⟨hx, hb, hml, hown, hts⟩ hE hST hA ((c_through_L l Z htr L vr q_18 (SizeOf.sizeOf (S1.2.1 v) + 1)).2 (S1.2.1 v) (.var v) (vr v) _ S1 (Nat.lt_succ_self _) rfl hc_22 hC4 (htv3.light hexL.uL)) (va_cwS 2 hts (lw_S q1252 q1147 q87 q1148) rfl rfl rfl (by decide +kernel) ⟨(by (try dsimp only); omega), (by (try dsimp only); omega)⟩) hM hS rfl hl.1 (Nat.le_of_ble_eq_true rfl) dX1_join_186 rfl ⟨(by (try dsimp only); omega), (by (try dsimp only); omega)⟩ (fun E ce q M9 H1 locs1 hp9 hM9 hS9 hce hcv9 hcl => by exact mm_outxD htab hlk hM9 hS9 hce hcv9 hcl ⟨5, by rw [hJ]; show ((if S1.2.2.1 v then tLike S1 (S1.2.1 v) else .inr S1) : te) = _; rw [if_pos hlk9]; unfold tLike; rw [if_pos hp9.1], (hp9.2.after hexL.uL).afterK hKK⟩ (by (try dsimp only); omega) (by (try dsimp only); omega)) (fun v_30 M_31 n_33 k_34 H locs hp_32 hM hS => ?_)
    obtain ⟨rfl, rfl, rfl, ho5, hL5, hC5⟩ := hp_32
    have hc_35 := hL5.atC hc_23 (by decide)
    have hc_36 := hL5.atC hc_24 (by decide)
    have hLL := hexL.uL.trans hL5
    exact mm_retvD hx hb hr hlk hM hS ⟨rfl, by (try dsimp only); omega, by (try dsimp only); omega, ts_like S1 (S1.2.1 v), L, vr, by rw [hJ]; show ((if S1.2.2.1 v then tLike S1 (S1.2.1 v) else .inr S1) : te) = _; rw [if_pos hlk9]; unfold tLike; rw [if_neg (by rw [ho5]; decide)], hKK.trans hLL.K, hC5, fun _ h => h, fun _ _ => rfl, by show S.1 ≤ S1.1; omega, by rw [hLL.phi hC3.2.2.1]; omega, by omega, hle1, uNw.rf _ _, fun z hz1 hz2 => by rw [← hnx z hz1 (hz2 v (Or.inl rfl))]; cases h8 : M z with | none => exact absurd h8 hz1 | some e9 => obtain ⟨e7, h7⟩ := hKK.has h8; exact hLL.next h7⟩ dX1_join_189 (by (try dsimp only); omega) (by (try dsimp only); omega)
set_option maxHeartbeats 4000000 in
set_option maxRecDepth 100000 in
theorem d_X1_join_2 (l : Launch) (Z : mm_G) {M : mm_M} (htr : l.stackTraces = false) {L : List Nat} {vr : Nat → Nat} {S : ts} {f1 f2 : Nat → Option ev} {own its lb1 lb2 : Int32} {one other : Nat} (hC : uCI Z M L vr S) (hs1 : ∀ l, l < 10 → uhs own l = true → f1 l ≠ none) (hs2 : ∀ l, l < 10 → uhs its l = true → f2 l ≠ none) {v Hh b9 : Nat} (h1 : uFA Z M L vr S one f1 lb1 none) (h2 : uFA Z M L vr S other f2 lb2 (some v)) (hB9 : uB Z M L vr S b9) (hH9 : 2 * b9 + 3 ≤ Hh) : mm_D l Z yX1_join (ws_ yX1_join cX1_join 5 none) { frames := Hh + L.length + 21, cells := 31, slots := 100, locals := 25 * Hh + 20 * L.length + 920 } [.ref one, .ref other, .int own, .int its] M (jP Z M L vr S (tJoin S f1 f2 none (some v) own its) none (some v)) (fun E q M' => ∃ er, (tJoin S f1 f2 none (some v) own its) = .inl er ∧ uX M er E q M') := by
  refine mm_ofWD (cc := cX1_join) (maxL := 5) (ret := none) (by decide) rfl (Nat.le_of_ble_eq_true rfl) ?_
  intro p e s m below meth c A ls hx hb hr hlk hml hown hmn hts htab hE hST hA hM hS hl
  replace hl : lv_has ls 5 [(0, .ref one), (1, .ref other), (2, .int own), (3, .int its)] := hl
  obtain ⟨q1, ar1, xs1, hf1, hA1, hX1, ht1⟩ := h1
  obtain ⟨q2, ar2, xs2, hf2, hA2, hX2, ht2⟩ := h2
  obtain ⟨hv, htv, hnv⟩ := ht2 v rfl
  obtain ⟨hcv, hsv⟩ := hC.rootR hv htv hnv
  obtain ⟨g9, hG9, hfg9⟩ := hX1.G
  have hz0 : tp Z M L vr S.1 (.natCast 0) true (Z.2.2.1 1) := by unfold tp; exact ⟨rfl, rfl, hC.2.2.2.2.2⟩
  have hzn : unext M (Z.2.2.1 1) = none := unext_cz hC.2.2.2.2.2
  refine va_gets hx hb (hST.1 _ (List.mem_of_getElem? (i := 1) rfl)) hS hown (hts _ q1238) (fun _ h9 => h9) dX1_join_0 ?_
  refine lv_astore hx hb dX1_join_3 hl (by decide) rfl (fun ls hl => ?_)
  replace hl : lv_has ls 5 [(4, .ref (Z.2.2.1 1)), (0, .ref one), (1, .ref other), (2, .int own), (3, .int its)] := hl
  refine lv_aload_n hx hb dX1_join_5 rfl (lv_at hl 1 rfl) ?_
  refine va_getN (D := Z.1) (ci := 17) (v := .null) (C := RX22) (T := TX22) (N := 3) hx hb hts in_X22 hown hE.1 (hM.at hf1) 0 rfl mm_cX22 1 (by decide) (va_Nw.use rfl (hE.2.1 _ q1217 rfl)) (fun _ h9 => h9) rfl dX1_join_6 ?_
  refine lv_ifnullN (tgt := 85) hx hb dX1_join_9 (by decide) ?_
  refine lv_aload_n hx hb dX1_join_85 rfl (lv_at hl 2 rfl) ?_
  refine va_getN (D := Z.1) (ci := 17) (v := .ref (vr v)) (C := RX22) (T := TX22) (N := 3) hx hb hts in_X22 hown hE.1 (hM.at hf2) 0 rfl mm_cX22 1 (by decide) (va_Nw.use rfl (hE.2.1 _ q1217 rfl)) (fun _ h9 => h9) rfl dX1_join_86 ?_
  refine lv_ifnull hx hb dX1_join_89 ?_
  refine lv_aload_n hx hb dX1_join_92 rfl (lv_at hl 2 rfl) ?_
  refine va_getN (D := Z.1) (ci := 17) (v := .ref (vr v)) (C := RX22) (T := TX22) (N := 3) hx hb hts in_X22 hown hE.1 (hM.at hf2) 0 rfl mm_cX22 1 (by decide) (va_Nw.use rfl (hE.2.1 _ q1217 rfl)) (fun _ h9 => h9) rfl dX1_join_93 ?_
  refine lv_aload_n hx hb dX1_join_96 rfl (lv_at hl 1 rfl) ?_
  refine lv_iload_n hx hb dX1_join_97 rfl (lv_at hl 3 rfl) ?_
  refine lv_aload hx hb dX1_join_98 (lv_at hl 0 rfl) ?_
  refine mm_callVD (As := [.int own, .ref (Z.2.2.1 1)]) (rest := [.ref (vr v)]) ⟨hx, hb, hml, hown, hts⟩ hE hST hA (d_X22_some l Z (er := .natCast 0) (rb := Z.2.2.1 1) hf1 hA1 hG9 (fun l hl h9 h8 => hs1 l hl h9 (by rw [hfg9 l hl, h8]; rfl)) hz0 hzn) (cwV 2 hts (lw_V q1242 q1243 q1244 q90 q1245) rfl rfl rfl (by decide +kernel) ⟨(by (try dsimp only); omega), (by (try dsimp only); omega)⟩) hM hS mm_cX22 hf1 rfl hl.1 (Nat.le_of_ble_eq_true rfl) dX1_join_100 rfl ⟨(by (try dsimp only); omega), (by (try dsimp only); omega)⟩ (fun _ _ _ _ _ _ h9 => h9.elim) (fun v_1 M_2 n_4 k_5 H locs hp_3 hM hS => ?_)
  obtain ⟨rr, rfl, hn1, hk1, hex2, htr2, hur⟩ := hp_3
  have hc_6 := hex2.at hf1
  have hc_7 := hex2.at hf2
  have hc_8 := hex2.at hcv
  have hC2 := hC.lite hex2
  have hseen : uap S.2.1 (usome g9 own (.natCast 0) 10) = uap S.2.1 (usome f1 own (.natCast 0) 10) := usome_cgu 10 _ _ (fun l hl => by rw [hfg9 l hl, Option.map_map]; congr 1; funext t9; exact (hC.1.1.le t9).symm) rfl
  have hcg : tClose S v (usome g9 own (.natCast 0) 10) = tClose S v (usome f1 own (.natCast 0) 10) := tClose_cg hseen
  have hH : uh (uap S.2.1 (usome g9 own (.natCast 0) 10)) ≤ Hh := by have h9 := hC2.heightB (hB9.go hC hC2 hex2.uK (fun _ h => h) (fun _ _ => rfl) (Nat.le_refl _) hC.1.1.le (fun a h1 h2 => absurd h1 h2)) htr2; simp only [Bool.toNat_true] at h9; omega
  have hJ : tJoin S f1 f2 none (some v) own its = te_b (tClose S v (usome f1 own (.natCast 0) 10)) fun S1 => te_b (if S1.2.2.1 v then tLike S1 (S1.2.1 v) else .inr S1) fun S3 => .inr S3 := rfl
  rw [← hcg] at hJ
  refine mm_callSD (As := [.ref (vr v), .ref rr]) (rest := []) ⟨hx, hb, hml, hown, hts⟩ hE hST hA (d_X1_close l Z htr (S := S) (v := v) (t := usome g9 own (.natCast 0) 10) rfl hC2 hv hc_8 htr2 hur) (va_cwS 2 hts (lw_S q1249 q1250 q50 q1251) rfl rfl rfl (by decide +kernel) ⟨(by (try dsimp only); omega), (by (try dsimp only); omega)⟩) hM hS rfl hl.1 (Nat.le_of_ble_eq_true rfl) dX1_join_103 rfl ⟨(by (try dsimp only); omega), (by (try dsimp only); omega)⟩ (fun E ce q M9 H1 locs1 hp9 hM9 hS9 hce hcv9 hcl => by obtain ⟨er9, he9, hx9⟩ := hp9; exact mm_outxD htab hlk hM9 hS9 hce hcv9 hcl ⟨er9, by rw [hJ, he9]; rfl, hx9.afterK hex2.uK⟩ (by (try dsimp only); omega) (by (try dsimp only); omega)) (fun v_9 M_10 n_12 k_13 H locs hp_11 hM hS => ?_)
  obtain ⟨rfl, hn2, hk2, S1, hS1, hK2, hC3, hS11, hP3, hx3⟩ := hp_11
  have hKK := hex2.uK.trans hK2
  rw [hS1] at hJ
  have hc_14 := hK2.atC hc_6 (by decide)
  have hc_15 := hK2.atC hc_7 (by decide)
  have hle1 := tClose_le hC.1.1 hS1
  have htv3 : tp Z M_10 L vr S1.1 (.var v) true (vr v) := by rw [hS11]; exact tp.mono hKK (fun _ h => h) (fun _ _ => rfl) (Nat.le_refl _) _ _ _ htv
  obtain ⟨bd3, hcv3⟩ := hC3.cellR htv3
  have hnx : ∀ z, M z ≠ none → z ≠ vr v → unext M_10 z = unext M z := fun z hz1 hz2 => by rw [hx3 z (by rw [hex2 z hz1]; exact hz1) hz2]; unfold unext; rw [hex2 z hz1]
  have hPM : uPhi M_2 L = uPhi M L := hex2.uL.phi hC.2.2.1
  have hT4 : uap S1.2.1 (.var v) = S1.2.1 v := rfl
  have hh4 : uh (S1.2.1 v) ≤ Hh := by
    have h9 : S1.2.1 v = uap S.2.1 (usome g9 own (.natCast 0) 10) := by
      unfold tClose at hS1
      split at hS1
      · cases hS1
      · cases hS1
        show uap (uon v _) (S.2.1 v) = _
        rw [hsv]
        show uon v _ v = _
        unfold uon; rw [if_pos rfl]
    rw [h9]; exact hH
  refine lv_aload_n hx hb dX1_join_106 rfl (lv_at hl 1 rfl) ?_
  refine va_getN (D := Z.1) (ci := 17) (v := .null) (C := RX22) (T := TX22) (N := 3) hx hb hts in_X22 hown hE.1 (hM.at hc_14) 0 rfl mm_cX22 1 (by decide) (va_Nw.use rfl (hE.2.1 _ q1217 rfl)) (fun _ h9 => h9) rfl dX1_join_107 ?_
  refine lv_ifnullN (tgt := 127) hx hb dX1_join_110 (by decide) ?_
  refine lv_aload_n hx hb dX1_join_127 rfl (lv_at hl 2 rfl) ?_
  refine va_getN (D := Z.1) (ci := 17) (v := .ref (vr v)) (C := RX22) (T := TX22) (N := 3) hx hb hts in_X22 hown hE.1 (hM.at hc_15) 0 rfl mm_cX22 1 (by decide) (va_Nw.use rfl (hE.2.1 _ q1217 rfl)) (fun _ h9 => h9) rfl dX1_join_128 ?_
  refine lv_ifnull hx hb dX1_join_131 ?_
  refine lv_aload_n hx hb dX1_join_134 rfl (lv_at hl 2 rfl) ?_
  refine va_getN (D := Z.1) (ci := 17) (v := .ref (vr v)) (C := RX22) (T := TX22) (N := 3) hx hb hts in_X22 hown hE.1 (hM.at hc_15) 0 rfl mm_cX22 1 (by decide) (va_Nw.use rfl (hE.2.1 _ q1217 rfl)) (fun _ h9 => h9) rfl dX1_join_135 ?_
  refine va_getN (D := Z.1) (ci := 12) (v := .int (mm_b (S1.2.2.1 v))) (C := RX15) (T := TX15) (N := 4) hx hb hts in_X15 hown hE.1 (hM.at hcv3) 0 rfl mm_cX15 2 (by decide) (va_Nw.use rfl (hE.2.1 _ q930 rfl)) (fun _ h9 => h9) rfl dX1_join_138 ?_
  refine lv_if_eq (tgt := 158) hx hb dX1_join_141 (by decide) (fun c_16 => ?_) (fun c_16 => ?_)
  · skip
    have hlk9 : S1.2.2.1 v = false := (mm_b_0 _).1 c_16
    refine lv_aload_n hx hb dX1_join_158 rfl (lv_at hl 1 rfl) ?_
    refine va_getN (D := Z.1) (ci := 17) (v := .null) (C := RX22) (T := TX22) (N := 3) hx hb hts in_X22 hown hE.1 (hM.at hc_14) 0 rfl mm_cX22 1 (by decide) (va_Nw.use rfl (hE.2.1 _ q1217 rfl)) (fun _ h9 => h9) rfl dX1_join_159 ?_
    refine lv_ifnullN (tgt := 189) hx hb dX1_join_162 (by decide) ?_
    exact mm_retvD hx hb hr hlk hM hS ⟨rfl, by (try dsimp only); omega, by (try dsimp only); omega, S1, L, vr, by rw [hJ]; show ((te_b (if S1.2.2.1 v then tLike S1 (S1.2.1 v) else .inr S1) fun S3 => .inr S3) : te) = _; rw [if_neg (by rw [hlk9]; decide)]; rfl, hKK, hC3, fun _ h => h, fun _ _ => rfl, by omega, by omega, by omega, hle1, uNw.rf _ _, fun z hz1 hz2 => hnx z hz1 (hz2 v (Or.inr rfl))⟩ dX1_join_189 (by (try dsimp only); omega) (by (try dsimp only); omega)
  · skip
    have hlk9 : S1.2.2.1 v = true := by cases h8 : S1.2.2.1 v with | true => rfl | false => exact absurd ((mm_b_0 _).2 h8) c_16
    refine lv_aload_n hx hb dX1_join_144 rfl (lv_at hl 2 rfl) ?_
    refine va_getN (D := Z.1) (ci := 17) (v := .ref (vr v)) (C := RX22) (T := TX22) (N := 3) hx hb hts in_X22 hown hE.1 (hM.at hc_15) 0 rfl mm_cX22 1 (by decide) (va_Nw.use rfl (hE.2.1 _ q1217 rfl)) (fun _ h9 => h9) rfl dX1_join_145 ?_
    refine mm_new (D := Z.1) (ci := 50) (fs := []) (C := "RowenTongue$Likening") (T := mm_TE0) (N := 0) hx hb hts mm_inE0 (fun _ => .int) (fun k h => absurd h (Nat.not_lt_zero k)) hown (hts _ q1180) (hts _ q1181) (hts _ q89) hE.1 hM hS hA mm_cE0 (fun j h => absurd h (Nat.not_lt_zero j)) (by (try dsimp only); omega) (by (try dsimp only); omega) dX1_join_148 (fun q_18 H nq_17 hM hS => ?_)
    have hM : mm_P Z.1 mm_cl A (mm_U M_10 q_18 (.inr (50, []))) H := hM
    have ne_19 : one ≠ q_18 := (mm_neN hc_14 nq_17)
    have ne_20 : other ≠ q_18 := (mm_neN hc_15 nq_17)
    have ne_21 : (vr v) ≠ q_18 := (mm_neN hcv3 nq_17)
    have hc_22 : (mm_U M_10 q_18 (.inr (50, []))) q_18 = some (.inr (50, [])) := mm_U_eq
    have hc_23 : (mm_U M_10 q_18 (.inr (50, []))) one = some (.inr (17, [.ref q1, .null, .int lb1])) := (mm_U_ne ne_19).trans hc_14
    have hc_24 : (mm_U M_10 q_18 (.inr (50, []))) other = some (.inr (17, [.ref q2, .ref (vr v), .int lb2])) := (mm_U_ne ne_20).trans hc_15
    have hc_25 : (mm_U M_10 q_18 (.inr (50, []))) (vr v) = some (.inr (12, [va_rf bd3, .int (S1.2.2.2.2 v), .int (mm_b (S1.2.2.1 v)), .int (S1.2.2.2.1 v)])) := (mm_U_ne ne_21).trans hcv3
    obtain ⟨M_26, eM_26⟩ : ∃ z, z = mm_U M_10 q_18 (.inr (50, [])) := ⟨_, rfl⟩
    rw [← eM_26] at hM hc_23 hc_24 hc_25 hc_22
    refine lv_dup hx hb dX1_join_151 rfl ?_
    refine mm_callIN (As := []) (rest := [.ref q_18, .ref (vr v)]) ⟨hx, hb, hml, hown, hts⟩ hE hST hA (c_X21_init l Z (M := M_26) (h0 := q_18) hc_22) ⟨va_cnB 0 hts (lw_meth q1184) rfl rfl rfl (hE.2.1 _ q1182 rfl) (hts _ q89) (by decide +kernel) ⟨(by (try dsimp only); omega), (by (try dsimp only); omega)⟩, rfl, hts _ q1183⟩ hM hS rfl hl.1 (Nat.le_of_ble_eq_true rfl) dX1_join_152 rfl ⟨(by (try dsimp only); omega), (by (try dsimp only); omega)⟩ (fun _ _ _ _ _ _ h9 => h9.elim) (fun v_27 M_28 H locs hp_29 hM hS => ?_)
    obtain ⟨rfl, eM_28⟩ := hp_29
    rw [eM_28] at hM
    have hexL : mm_Ext M_10 M_26 := by subst eM_26; (try rw [mm_U_U]); exact mm_Ext.U nq_17
    have hC4 := hC3.lite hexL
    refine mm_callSD (As := [.ref (vr v), .ref q_18]) (rest := []) ⟨hx, hb, hml, hown, hts⟩ hE hST hA ((c_through_L l Z htr L vr q_18 (SizeOf.sizeOf (S1.2.1 v) + 1)).2 (S1.2.1 v) (.var v) (vr v) _ S1 (Nat.lt_succ_self _) rfl hc_22 hC4 (htv3.light hexL.uL)) (va_cwS 2 hts (lw_S q1252 q1147 q87 q1148) rfl rfl rfl (by decide +kernel) ⟨(by (try dsimp only); omega), (by (try dsimp only); omega)⟩) hM hS rfl hl.1 (Nat.le_of_ble_eq_true rfl) dX1_join_155 rfl ⟨(by (try dsimp only); omega), (by (try dsimp only); omega)⟩ (fun E ce q M9 H1 locs1 hp9 hM9 hS9 hce hcv9 hcl => by exact mm_outxD htab hlk hM9 hS9 hce hcv9 hcl ⟨5, by rw [hJ]; show ((te_b (if S1.2.2.1 v then tLike S1 (S1.2.1 v) else .inr S1) fun S3 => .inr S3) : te) = _; rw [if_pos hlk9]; unfold tLike; rw [if_pos hp9.1]; rfl, (hp9.2.after hexL.uL).afterK hKK⟩ (by (try dsimp only); omega) (by (try dsimp only); omega)) (fun v_30 M_31 n_33 k_34 H locs hp_32 hM hS => ?_)
    obtain ⟨rfl, rfl, rfl, ho5, hL5, hC5⟩ := hp_32
    have hc_35 := hL5.atC hc_23 (by decide)
    have hc_36 := hL5.atC hc_24 (by decide)
    have hLL := hexL.uL.trans hL5
    refine lv_aload_n hx hb dX1_join_158 rfl (lv_at hl 1 rfl) ?_
    refine va_getN (D := Z.1) (ci := 17) (v := .null) (C := RX22) (T := TX22) (N := 3) hx hb hts in_X22 hown hE.1 (hM.at hc_35) 0 rfl mm_cX22 1 (by decide) (va_Nw.use rfl (hE.2.1 _ q1217 rfl)) (fun _ h9 => h9) rfl dX1_join_159 ?_
    refine lv_ifnullN (tgt := 189) hx hb dX1_join_162 (by decide) ?_
    exact mm_retvD hx hb hr hlk hM hS ⟨rfl, by (try dsimp only); omega, by (try dsimp only); omega, ts_like S1 (S1.2.1 v), L, vr, by rw [hJ]; show ((te_b (if S1.2.2.1 v then tLike S1 (S1.2.1 v) else .inr S1) fun S3 => .inr S3) : te) = _; rw [if_pos hlk9]; unfold tLike; rw [if_neg (by rw [ho5]; decide)]; rfl, hKK.trans hLL.K, hC5, fun _ h => h, fun _ _ => rfl, by show S.1 ≤ S1.1; omega, by rw [hLL.phi hC3.2.2.1]; omega, by omega, hle1, uNw.rf _ _, fun z hz1 hz2 => by rw [← hnx z hz1 (hz2 v (Or.inr rfl))]; cases h8 : M z with | none => exact absurd h8 hz1 | some e9 => obtain ⟨e7, h7⟩ := hKK.has h8; exact hLL.next h7⟩ dX1_join_189 (by (try dsimp only); omega) (by (try dsimp only); omega)
