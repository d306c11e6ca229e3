/-! ===== the component's tell ===== -/
set_option maxRecDepth 100000
/-- from M to M' the builder b has come to s', in the array ar' (it was in ar); all else that was stays -/
def BF (Z : mm_G) (M M' : mm_M) (b ar ar' : Nat) (s' : List Nat × Nat) : Prop := TB Z M' b ar' s'.2 s'.1 ∧ (∀ q, M q ≠ none → q ≠ b → q ≠ ar → M' q = M q) ∧ (ar' = ar ∨ M ar' = none)
theorem BF.rf {Z : mm_G} {M : mm_M} {b ar : Nat} {s : List Nat × Nat} (h : TB Z M b ar s.2 s.1) : BF Z M M b ar ar s := ⟨h, fun _ _ _ _ => rfl, Or.inl rfl⟩
theorem BF.trans {Z : mm_G} {M M1 M2 : mm_M} {b ar a1 a2 : Nat} {s1 s2 : List Nat × Nat} (h1 : BF Z M M1 b ar a1 s1) (h2 : BF Z M1 M2 b a1 a2 s2) : BF Z M M2 b ar a2 s2 := by
  obtain ⟨t1, k1, o1⟩ := h1
  obtain ⟨t2, k2, o2⟩ := h2
  have hk : ∀ q, M q ≠ none → q ≠ b → q ≠ ar → M2 q = M q := fun q hq hb ha => by
    have h3 := k1 q hq hb ha
    rw [k2 q (by rw [h3]; exact hq) hb (fun h4 => by rcases o1 with h5 | h5; exact ha (h4.trans h5); exact hq (by rw [h4]; exact h5)), h3]
  refine ⟨t2, hk, ?_⟩
  rcases o2 with h3 | h3
  · rw [h3]; exact o1
  · by_cases h4 : a2 = ar
    · exact Or.inl h4
    · refine Or.inr (Classical.byContradiction fun h5 => ?_)
      have hb : a2 ≠ b := fun h6 => by rw [h6, t1.1] at h3; cases h3
      exact h5 (by rw [← k1 a2 h5 hb h4]; exact h3)
theorem BF.of {Z : mm_G} {M M' : mm_M} {b ar : Nat} {s : List Nat × Nat} {ds : List Nat} (h : tb_post Z M M' b ar s.2 (s.1.length + ds.length) (s.1 ++ ds)) : ∃ ar', BF Z M M' b ar ar' (ap s ds) := by
  obtain ⟨ar', hT, hk, ho⟩ := h
  exact ⟨ar', hT, fun q hq hb ha => hk q hb (fun h4 => by rcases ho with h5 | h5; exact ha (h4.trans h5); exact hq (by rw [h4]; exact h5)), ho⟩
/-- what tells wants: the digits' tables, the constants -/
def tx_T (Z : mm_G) (M : mm_M) (ar : Nat) : Prop := dg_T Z M ∧ ar ≠ Z.2.2.1 3 ∧ ar ≠ Z.2.2.1 4 ∧ (∃ sr, ST Z M (Z.2.2.2 0) sr [] ∧ sr ≠ ar) ∧ ∃ sr, ST Z M (Z.2.2.2 22) sr [44] ∧ sr ≠ ar
def mm_Kt (M M' : mm_M) : Prop := (∀ (a ci : Nat) (fs : List Value), M a = some (.inr (ci, fs)) → ci ≠ 49 → M' a = some (.inr (ci, fs))) ∧ ∀ (a : Nat) (c : ClassId) (n : Nat) q, M a = some (.inl (c, n, .inr q)) → M' a = some (.inl (c, n, .inr q))
theorem BF.Kt {Z : mm_G} {M M' : mm_M} {b ar ar' : Nat} {s s' : List Nat × Nat} (h : BF Z M M' b ar ar' s') (hT : TB Z M b ar s.2 s.1) : mm_Kt M M' := by
  refine ⟨fun a ci fs ha hc => ?_, fun a c n q ha => ?_⟩
  · rw [h.2.1 a (by rw [ha]; exact fun h9 => by cases h9) (mm_neC ha hT.1 hc) (fun h9 => by rw [h9, hT.2.1] at ha; cases ha)]; exact ha
  · rw [h.2.1 a (by rw [ha]; exact fun h9 => by cases h9) (mm_neA ha hT.1) (fun h9 => by rw [h9, hT.2.1] at ha; cases ha)]; exact ha
theorem BF.oldA {Z : mm_G} {M M' : mm_M} {b ar ar' : Nat} {s s' : List Nat × Nat} (h : BF Z M M' b ar ar' s') (hT : TB Z M b ar s.2 s.1) {a : Nat} {x : ClassId × vp_A} (ha : M a = some (.inl x)) (hn : a ≠ ar) : M' a = some (.inl x) ∧ a ≠ ar' := by
  refine ⟨?_, fun h9 => ?_⟩
  · rw [h.2.1 a (by rw [ha]; exact fun h9 => by cases h9) (mm_neA ha hT.1) hn]; exact ha
  · rcases h.2.2 with h8 | h8
    · exact hn (h9.trans h8)
    · rw [h9, h8] at ha; cases ha
theorem BF.tx {Z : mm_G} {M M' : mm_M} {b ar ar' : Nat} {s s' : List Nat × Nat} (h : BF Z M M' b ar ar' s') (hT : TB Z M b ar s.2 s.1) (hx : tx_T Z M ar) : tx_T Z M' ar' := by
  obtain ⟨⟨d1, d2, h3, h4, hd⟩, n3, n4, ⟨s0, ⟨hh0, hz0, hs0, ha0, hl0, ho0⟩, m0⟩, s1, ⟨hh1, hz1, hs1, ha1, hl1, ho1⟩, m1⟩ := hx
  have k := h.Kt hT
  obtain ⟨e3, g3⟩ := h.oldA hT h3 (Ne.symm n3)
  obtain ⟨e4, g4⟩ := h.oldA hT h4 (Ne.symm n4)
  obtain ⟨f0, j0⟩ := h.oldA hT ha0 m0
  obtain ⟨f1, j1⟩ := h.oldA hT ha1 m1
  exact ⟨⟨d1, d2, e3, e4, hd⟩, Ne.symm g3, Ne.symm g4, ⟨s0, ⟨hh0, hz0, k.1 _ _ _ hs0 (by decide), f0, hl0, ho0⟩, j0⟩, s1, ⟨hh1, hz1, k.1 _ _ _ hs1 (by decide), f1, hl1, ho1⟩, j1⟩
theorem cr.monoT {Z : mm_G} {M M' : mm_M} {ad : List Nat} {T : List pt_R} (h : mm_Kt M M') (v : ev) (i : Nat) (f : Nat → Option Nat) (o : Option Nat) (h9 : cr Z M ad T v i f o) : cr Z M' ad T v i f o := by
  unfold cr at h9
  split at h9
  · obtain ⟨a, h1, h2⟩ := h9; simp only [cr]; exact ⟨a, h1, h.1 _ _ _ h2 (by decide)⟩
  · rename_i k e
    obtain ⟨a, r, j, b, sc, h1, h2, h3, h4, h5, h6⟩ := h9; simp only [cr]; exact ⟨a, r, j, b, sc, h1, h2, h3, h4, h.1 _ _ _ h5 (by decide), cr.monoT h e 1 _ _ h6⟩
  · rename_i v l
    obtain ⟨a, b, h1, h2, h3⟩ := h9; simp only [cr]; exact ⟨a, b, h1, h.1 _ _ _ h2 (by decide), cr.monoT h v 0 _ _ h3⟩
  · rename_i x r
    obtain ⟨a, q, f, h1, h2, h3, h4, h5⟩ := h9; simp only [cr]; exact ⟨a, q, f, h1, h.1 _ _ _ h2 (by decide), h.2 _ _ _ _ h3, h4.imp id (fun h6 => ⟨h6.1, cr.monoT h x 0 _ _ h6.2⟩), cr.monoT h r 3 _ _ h5⟩
  · simp only [cr]; exact h9
  · rename_i v n e
    obtain ⟨a, b, nx, h1, h2, h3, h4⟩ := h9; simp only [cr]; exact ⟨a, b, nx, h1, h.1 _ _ _ h2 (by decide), cr.monoT h v 0 _ _ h3, cr.monoT h e 1 _ _ h4⟩
  · rename_i t n e
    obtain ⟨a, b, nx, h1, h2, h3, h4⟩ := h9; simp only [cr]; exact ⟨a, b, nx, h1, h2, h.1 _ _ _ h3 (by decide), cr.monoT h e 1 _ _ h4⟩
  · rename_i x r i
    obtain ⟨h4, h5⟩ := h9; simp only [cr]; exact ⟨h4.imp id (fun h6 => ⟨h6.1, cr.monoT h x 0 _ _ h6.2⟩), cr.monoT h r (i + 3) _ _ h5⟩
  · simp only [cr]; exact h9
  · exact h9.elim
termination_by SizeOf.sizeOf v
decreasing_by all_goals (subst_vars; simp_all; try omega)
theorem rm_ap (s : List Nat × Nat) (ds : List Nat) : tb_mk (s.1.length + ds.length) s.2 + s.2 ≤ (ap s ds).2 ∧ tb_ms (s.1.length + ds.length) s.2 + 2 * s.2 ≤ 2 * (ap s ds).2 := by
  simp only [ap, tb_mk, tb_ms, tb_cap]
  split <;> omega

theorem c_J19_appendX (l : Launch) (Z : mm_G) {M : mm_M} {b ar cap : Nat} {cs : List Nat} (hT9 : TB Z M b ar cap cs) (hc : cap < 2 ^ 18) (hcs : cs.length < 2 ^ 18) (hd9 : dg_T Z M) (hn3 : ar ≠ Z.2.2.1 3) (hn4 : ar ≠ Z.2.2.1 4) {x : Int32} : mm_C l Z yJ19_append_2 (ws_ yJ19_append_2 cJ19_append_2 2 (some (.object "java/lang/StringBuilder"))) { frames := 5, cells := tb_mk (cs.length + (dgx x).length) cap, slots := tb_ms (cs.length + (dgx x).length) cap, locals := 260 } [.ref b, .int x] M (fun v M' => v = some (.ref b) ∧ tb_post Z M M' b ar cap (cs.length + (dgx x).length) (cs ++ dgx x)) mm_nx := by
  obtain ⟨bb, n, h, rfl⟩ := sg_of x
  rw [dgx_sg h]
  exact c_J19_append_2 l Z hT9 hc h hcs hd9 hn3 hn4
/-- all values' tell -/
def tellC (l : Launch) (Z : mm_G) (ad : List Nat) (T : List pt_R) (v : ev) : Prop := ∀ (s : List Nat × Nat) (M : mm_M) (va b ar : Nat), s.1.length ≤ 320 → s.2 ≤ 1500 → TB Z M b ar s.2 s.1 → tx_T Z M ar → cr Z M ad T v 0 (fun _ => none) (some va) →
  (∀ n, v = .natCast n → mm_C l Z yX33_tell (ws_ yX33_tell cX33_tell 2 none) { frames := 340 - s.1.length + 10, cells := (tt v false 0 true s).2 - s.2, slots := 2 * (tt v false 0 true s).2 - 2 * s.2, locals := 60 * (340 - s.1.length) + 600 } [.ref va, .ref b] M (fun v9 M' => v9 = none ∧ ∃ ar', BF Z M M' b ar ar' (tt v false 0 true s)) mm_nx) ∧ (∀ k e, v = .sub k e → mm_C l Z yX34_tell (ws_ yX34_tell cX34_tell 2 none) { frames := 340 - s.1.length + 10, cells := (tt v false 0 true s).2 - s.2, slots := 2 * (tt v false 0 true s).2 - 2 * s.2, locals := 60 * (340 - s.1.length) + 600 } [.ref va, .ref b] M (fun v9 M' => v9 = none ∧ ∃ ar', BF Z M M' b ar ar' (tt v false 0 true s)) mm_nx) ∧
  (∀ x r, v = .add x r → mm_C l Z yX36_tell (ws_ yX36_tell cX36_tell 4 none) { frames := 340 - s.1.length + 10, cells := (tt v false 0 true s).2 - s.2, slots := 2 * (tt v false 0 true s).2 - 2 * s.2, locals := 60 * (340 - s.1.length) + 600 } [.ref va, .ref b] M (fun v9 M' => v9 = none ∧ ∃ ar', BF Z M M' b ar ar' (tt v false 0 true s)) mm_nx) ∧ (∀ u k, v = .pow u k → mm_C l Z yX37_tell (ws_ yX37_tell cX37_tell 2 none) { frames := 340 - s.1.length + 10, cells := (tt v false 0 true s).2 - s.2, slots := 2 * (tt v false 0 true s).2 - 2 * s.2, locals := 60 * (340 - s.1.length) + 600 } [.ref va, .ref b] M (fun v9 M' => v9 = none ∧ ∃ ar', BF Z M M' b ar ar' (tt v false 0 true s)) mm_nx)
set_option maxHeartbeats 4000000 in
set_option maxRecDepth 100000 in
theorem c_X33_tell (l : Launch) (Z : mm_G) {M : mm_M} {ss : List Nat × Nat} {va b ar : Nat} (hl9 : ss.1.length ≤ 320) (hc9 : ss.2 ≤ 1500) (hT9 : TB Z M b ar ss.2 ss.1) (hx9 : tx_T Z M ar) {n : Nat} (hv9 : M va = some (.inr (27, [.int (nI n)]))) : mm_C l Z yX33_tell (ws_ yX33_tell cX33_tell 2 none) { frames := 340 - ss.1.length + 10, cells := (tt (.natCast n) false 0 true ss).2 - ss.2, slots := 2 * (tt (.natCast n) false 0 true ss).2 - 2 * ss.2, locals := 60 * (340 - ss.1.length) + 600 } [.ref va, .ref b] M ((fun v9 M' => v9 = none ∧ ∃ ar', BF Z M M' b ar ar' (tt (.natCast n) false 0 true ss))) mm_nx := by
  refine mm_ofW (cc := cX33_tell) (maxL := 2) (ret := none) (by decide) rfl (Nat.le_of_ble_eq_true rfl) ?_
  intro p e s m below meth c A ls hx hb hr hlk hml hown hmn hts htab hE hST hA hM hS hl
  replace hl : lv_has ls 2 [(0, .ref va), (1, .ref b)] := hl
  have hb_1 := hT9.1
  simp only [tt]
  have hdx := dgx_b (nI n)
  refine lv_aload_n hx hb dX33_tell_0 rfl (lv_at hl 1 rfl) ?_
  refine lv_aload_n hx hb dX33_tell_1 rfl (lv_at hl 0 rfl) ?_
  refine va_get (D := Z.1) (ci := 27) (v := .int (nI n)) (C := RX33) (T := TX33) (N := 1) hx hb hts in_X33 hown hE.1 (hM.at hv9) 0 rfl mm_cX33 0 (by decide) (hts _ q1832) (fun _ h9 => h9) rfl dX33_tell_2 ?_
  have hrmw_2 : tb_mk (ss.1.length + (dgx (nI n)).length) ss.2 + ss.2 ≤ (ap ss (dgx (nI n))).2 ∧ tb_ms (ss.1.length + (dgx (nI n)).length) ss.2 + 2 * ss.2 ≤ 2 * (ap ss (dgx (nI n))).2 := rm_ap ss (dgx (nI n))
  have hlw_2 : (ap ss (dgx (nI n))).1.length = (ss.1.length + (dgx (nI n)).length) := ap_len _ _
  have hcw_2 : (ap ss (dgx (nI n))).2 ≤ 1500 := ap_cap (by omega) (show (ss.1.length + (dgx (nI n)).length) ≤ 700 by omega)
  refine mm_callV (As := [.int (nI n)]) (rest := []) ⟨hx, hb, hml, hown, hts⟩ hE hST hA (c_J19_appendX l Z hT9 (by omega) (by omega) hx9.1 hx9.2.1 hx9.2.2.1 (x := nI n)) (cwV 1 hts (lw_V q1962 q1437 q1438 q93 q1439) rfl rfl rfl (by decide +kernel) ⟨(by (try dsimp only); omega), (by (try dsimp only); omega)⟩) hM hS mm_cJ19 hb_1 rfl hl.1 (Nat.le_of_ble_eq_true rfl) dX33_tell_5 rfl ⟨(by (try dsimp only); first | omega | (simp only [List.length_singleton, List.length_nil]; omega)), (by (try dsimp only); first | omega | (simp only [List.length_singleton, List.length_nil]; omega))⟩ (fun _ _ _ _ _ _ h9 => h9.elim) (fun v_3 M_4 H locs hp_5 hM hS => ?_)
  obtain ⟨rfl, hp9⟩ := hp_5
  obtain ⟨ar_6, B_7⟩ := BF.of (s := ss) (ds := dgx (nI n)) hp9
  have hT_8 := B_7.1
  have hx_9 := B_7.tx hT9 hx9
  have B_10 := (BF.rf hT9).trans B_7
  have hc_11 := (B_7.Kt hT9).1 _ _ _ hv9 (by decide)
  have hb_12 := hT_8.1
  refine lv_pop hx hb dX33_tell_8 rfl ?_
  exact mm_retv hx hb hr hlk hM hS ⟨rfl, _, B_10⟩ dX33_tell_9 (by (try dsimp only); omega) (by (try dsimp only); omega)
set_option maxHeartbeats 4000000 in
set_option maxRecDepth 100000 in
theorem c_X34_tell (l : Launch) (Z : mm_G) {M : mm_M} {ss : List Nat × Nat} {va b ar : Nat} (hl9 : ss.1.length ≤ 320) (hc9 : ss.2 ≤ 1500) (hT9 : TB Z M b ar ss.2 ss.1) (hx9 : tx_T Z M ar) {e1 e2 : ev} : mm_C l Z yX34_tell (ws_ yX34_tell cX34_tell 2 none) { frames := 340 - ss.1.length + 10, cells := (tt (.sub e1 e2) false 0 true ss).2 - ss.2, slots := 2 * (tt (.sub e1 e2) false 0 true ss).2 - 2 * ss.2, locals := 60 * (340 - ss.1.length) + 600 } [.ref va, .ref b] M ((fun v9 M' => v9 = none ∧ ∃ ar', BF Z M M' b ar ar' (tt (.sub e1 e2) false 0 true ss))) mm_nx := by
  refine mm_ofW (cc := cX34_tell) (maxL := 2) (ret := none) (by decide) rfl (Nat.le_of_ble_eq_true rfl) ?_
  intro p e s m below meth c A ls hx hb hr hlk hml hown hmn hts htab hE hST hA hM hS hl
  replace hl : lv_has ls 2 [(0, .ref va), (1, .ref b)] := hl
  have hb_1 := hT9.1
  simp only [tt]
  refine lv_aload_n hx hb dX34_tell_0 rfl (lv_at hl 1 rfl) ?_
  refine lv_bipush (v := 70) hx hb dX34_tell_1 (by decide) ?_
  have hrmw_2 : tb_mk (ss.1.length + 1) ss.2 + ss.2 ≤ (ap ss ([70])).2 ∧ tb_ms (ss.1.length + 1) ss.2 + 2 * ss.2 ≤ 2 * (ap ss ([70])).2 := rm_ap ss ([70])
  have hlw_2 : (ap ss ([70])).1.length = (ss.1.length + 1) := ap_len _ _
  have hcw_2 : (ap ss ([70])).2 ≤ 1500 := ap_cap (by omega) (show (ss.1.length + 1) ≤ 700 by omega)
  rw [show (70 : Int32) = nI 70 from by decide]
  refine mm_callV (As := [.int (nI 70)]) (rest := []) ⟨hx, hb, hml, hown, hts⟩ hE hST hA (c_J19_append_3 l Z (k := 70) hT9 (by omega) (by decide) (by omega)) (cwV 1 hts (lw_V q1981 q1627 q1628 q93 q1629) rfl rfl rfl (by decide +kernel) ⟨(by (try dsimp only); omega), (by (try dsimp only); omega)⟩) hM hS mm_cJ19 hb_1 rfl hl.1 (Nat.le_of_ble_eq_true rfl) dX34_tell_3 rfl ⟨(by (try dsimp only); first | omega | (simp only [List.length_singleton, List.length_nil]; omega)), (by (try dsimp only); first | omega | (simp only [List.length_singleton, List.length_nil]; omega))⟩ (fun _ _ _ _ _ _ h9 => h9.elim) (fun v_3 M_4 H locs hp_5 hM hS => ?_)
  obtain ⟨rfl, hp9⟩ := hp_5
  obtain ⟨ar_6, B_7⟩ := BF.of (s := ss) (ds := [70]) hp9
  have hT_8 := B_7.1
  have hx_9 := B_7.tx hT9 hx9
  have B_10 := (BF.rf hT9).trans B_7
  have hb_11 := hT_8.1
  refine lv_pop hx hb dX34_tell_6 rfl ?_
  exact mm_retv hx hb hr hlk hM hS ⟨rfl, _, B_10⟩ dX34_tell_7 (by (try dsimp only); omega) (by (try dsimp only); omega)
set_option maxHeartbeats 4000000 in
set_option maxRecDepth 100000 in
theorem c_X37_tell (l : Launch) (Z : mm_G) {M : mm_M} {ss : List Nat × Nat} {va b ar : Nat} (hl9 : ss.1.length ≤ 320) (hc9 : ss.2 ≤ 1500) (hT9 : TB Z M b ar ss.2 ss.1) (hx9 : tx_T Z M ar) {ad : List Nat} {T : List pt_R} {u : ev} {k : Nat} (hv9 : cr Z M ad T (.pow u k) 0 (fun _ => none) (some va)) (ihu : tellC l Z ad T u) : mm_C l Z yX37_tell (ws_ yX37_tell cX37_tell 2 none) { frames := 340 - ss.1.length + 10, cells := (tt (.pow u k) false 0 true ss).2 - ss.2, slots := 2 * (tt (.pow u k) false 0 true ss).2 - 2 * ss.2, locals := 60 * (340 - ss.1.length) + 600 } [.ref va, .ref b] M ((fun v9 M' => v9 = none ∧ ∃ ar', BF Z M M' b ar ar' (tt (.pow u k) false 0 true ss))) mm_nx := by
  refine mm_ofW (cc := cX37_tell) (maxL := 2) (ret := none) (by decide) rfl (Nat.le_of_ble_eq_true rfl) ?_
  intro p e s m below meth c A ls hx hb hr hlk hml hown hmn hts htab hE hST hA hM hS hl
  replace hl : lv_has ls 2 [(0, .ref va), (1, .ref b)] := hl
  simp only [cr] at hv9
  obtain ⟨a8, bp, e8, hva, hu9⟩ := hv9
  cases e8
  have hb_1 := hT9.1
  simp only [tt]
  have hdx := dgx_b (nI k)
  have hm1 : (ap ss [91]).2 ≤ (ap (ap ss [91]) (dgx (nI k))).2 := (le_ap _ _).2.1
  have hm2 : (ap (ap ss [91]) (dgx (nI k))).2 ≤ (ap (ap (ap ss [91]) (dgx (nI k))) [58]).2 := (le_ap _ _).2.1
  have hF : (ap (ap (ap ss [91]) (dgx (nI k))) [58]).2 ≤ (ap (if (ap (ap (ap ss [91]) (dgx (nI k))) [58]).1.length ≤ 300 then tt u false 0 true (ap (ap (ap ss [91]) (dgx (nI k))) [58]) else (ap (ap (ap ss [91]) (dgx (nI k))) [58])) [93]).2 := by
    refine Nat.le_trans ?_ (le_ap _ _).2.1
    split
    · exact (le_tt _ _ _ _ _).2.1
    · exact Nat.le_refl _
  refine lv_aload_n hx hb dX37_tell_0 rfl (lv_at hl 1 rfl) ?_
  refine lv_bipush (v := 91) hx hb dX37_tell_1 (by decide) ?_
  have hrmw_2 : tb_mk (ss.1.length + 1) ss.2 + ss.2 ≤ (ap ss ([91])).2 ∧ tb_ms (ss.1.length + 1) ss.2 + 2 * ss.2 ≤ 2 * (ap ss ([91])).2 := rm_ap ss ([91])
  have hlw_2 : (ap ss ([91])).1.length = (ss.1.length + 1) := ap_len _ _
  have hcw_2 : (ap ss ([91])).2 ≤ 1500 := ap_cap (by omega) (show (ss.1.length + 1) ≤ 700 by omega)
  rw [show (91 : Int32) = nI 91 from by decide]
  refine mm_callV (As := [.int (nI 91)]) (rest := []) ⟨hx, hb, hml, hown, hts⟩ hE hST hA (c_J19_append_3 l Z (k := 91) hT9 (by omega) (by decide) (by omega)) (cwV 1 hts (lw_V q1975 q1627 q1628 q93 q1629) rfl rfl rfl (by decide +kernel) ⟨(by (try dsimp only); omega), (by (try dsimp only); omega)⟩) hM hS mm_cJ19 hb_1 rfl hl.1 (Nat.le_of_ble_eq_true rfl) dX37_tell_3 rfl ⟨(by (try dsimp only); first | omega | (simp only [List.length_singleton, List.length_nil]; omega)), (by (try dsimp only); first | omega | (simp only [List.length_singleton, List.length_nil]; omega))⟩ (fun _ _ _ _ _ _ h9 => h9.elim) (fun v_3 M_4 H locs hp_5 hM hS => ?_)
  obtain ⟨rfl, hp9⟩ := hp_5
  obtain ⟨ar_6, B_7⟩ := BF.of (s := ss) (ds := [91]) hp9
  have hT_8 := B_7.1
  have hx_9 := B_7.tx hT9 hx9
  have B_10 := (BF.rf hT9).trans B_7
  have hc_11 := (B_7.Kt hT9).1 _ _ _ hva (by decide)
  have hb_12 := hT_8.1
  refine lv_aload_n hx hb dX37_tell_6 rfl (lv_at hl 0 rfl) ?_
  refine va_get (D := Z.1) (ci := 31) (v := .int (nI k)) (C := RX37) (T := TX37) (N := 2) hx hb hts in_X37 hown hE.1 (hM.at hc_11) 0 rfl mm_cX37 0 (by decide) (hts _ q1941) (fun _ h9 => h9) rfl dX37_tell_7 ?_
  have hrmw_13 : tb_mk ((ap ss ([91])).1.length + (dgx (nI k)).length) (ap ss ([91])).2 + (ap ss ([91])).2 ≤ (ap (ap ss ([91])) (dgx (nI k))).2 ∧ tb_ms ((ap ss ([91])).1.length + (dgx (nI k)).length) (ap ss ([91])).2 + 2 * (ap ss ([91])).2 ≤ 2 * (ap (ap ss ([91])) (dgx (nI k))).2 := rm_ap (ap ss ([91])) (dgx (nI k))
  have hlw_13 : (ap (ap ss ([91])) (dgx (nI k))).1.length = ((ap ss ([91])).1.length + (dgx (nI k)).length) := ap_len _ _
  have hcw_13 : (ap (ap ss ([91])) (dgx (nI k))).2 ≤ 1500 := ap_cap (by omega) (show ((ap ss ([91])).1.length + (dgx (nI k)).length) ≤ 700 by omega)
  refine mm_callV (As := [.int (nI k)]) (rest := []) ⟨hx, hb, hml, hown, hts⟩ hE hST hA (c_J19_appendX l Z hT_8 (by omega) (by omega) hx_9.1 hx_9.2.1 hx_9.2.2.1 (x := nI k)) (cwV 1 hts (lw_V q1976 q1437 q1438 q93 q1439) rfl rfl rfl (by decide +kernel) ⟨(by (try dsimp only); omega), (by (try dsimp only); omega)⟩) hM hS mm_cJ19 hb_12 rfl hl.1 (Nat.le_of_ble_eq_true rfl) dX37_tell_10 rfl ⟨(by (try dsimp only); first | omega | (simp only [List.length_singleton, List.length_nil]; omega)), (by (try dsimp only); first | omega | (simp only [List.length_singleton, List.length_nil]; omega))⟩ (fun _ _ _ _ _ _ h9 => h9.elim) (fun v_14 M_15 H locs hp_16 hM hS => ?_)
  obtain ⟨rfl, hp9⟩ := hp_16
  obtain ⟨ar_17, B_18⟩ := BF.of (s := (ap ss ([91]))) (ds := dgx (nI k)) hp9
  have hT_19 := B_18.1
  have hx_20 := B_18.tx hT_8 hx_9
  have B_21 := B_10.trans B_18
  have hc_22 := (B_18.Kt hT_8).1 _ _ _ hc_11 (by decide)
  have hb_23 := hT_19.1
  refine lv_bipush (v := 58) hx hb dX37_tell_13 (by decide) ?_
  have hrmw_24 : tb_mk ((ap (ap ss ([91])) (dgx (nI k))).1.length + 1) (ap (ap ss ([91])) (dgx (nI k))).2 + (ap (ap ss ([91])) (dgx (nI k))).2 ≤ (ap (ap (ap ss ([91])) (dgx (nI k))) ([58])).2 ∧ tb_ms ((ap (ap ss ([91])) (dgx (nI k))).1.length + 1) (ap (ap ss ([91])) (dgx (nI k))).2 + 2 * (ap (ap ss ([91])) (dgx (nI k))).2 ≤ 2 * (ap (ap (ap ss ([91])) (dgx (nI k))) ([58])).2 := rm_ap (ap (ap ss ([91])) (dgx (nI k))) ([58])
  have hlw_24 : (ap (ap (ap ss ([91])) (dgx (nI k))) ([58])).1.length = ((ap (ap ss ([91])) (dgx (nI k))).1.length + 1) := ap_len _ _
  have hcw_24 : (ap (ap (ap ss ([91])) (dgx (nI k))) ([58])).2 ≤ 1500 := ap_cap (by omega) (show ((ap (ap ss ([91])) (dgx (nI k))).1.length + 1) ≤ 700 by omega)
  rw [show (58 : Int32) = nI 58 from by decide]
  refine mm_callV (As := [.int (nI 58)]) (rest := []) ⟨hx, hb, hml, hown, hts⟩ hE hST hA (c_J19_append_3 l Z (k := 58) hT_19 (by omega) (by decide) (by omega)) (cwV 1 hts (lw_V q1975 q1627 q1628 q93 q1629) rfl rfl rfl (by decide +kernel) ⟨(by (try dsimp only); omega), (by (try dsimp only); omega)⟩) hM hS mm_cJ19 hb_23 rfl hl.1 (Nat.le_of_ble_eq_true rfl) dX37_tell_15 rfl ⟨(by (try dsimp only); first | omega | (simp only [List.length_singleton, List.length_nil]; omega)), (by (try dsimp only); first | omega | (simp only [List.length_singleton, List.length_nil]; omega))⟩ (fun _ _ _ _ _ _ h9 => h9.elim) (fun v_25 M_26 H locs hp_27 hM hS => ?_)
  obtain ⟨rfl, hp9⟩ := hp_27
  obtain ⟨ar_28, B_29⟩ := BF.of (s := (ap (ap ss ([91])) (dgx (nI k)))) (ds := [58]) hp9
  have hT_30 := B_29.1
  have hx_31 := B_29.tx hT_19 hx_20
  have B_32 := B_21.trans B_29
  have hc_33 := (B_29.Kt hT_19).1 _ _ _ hc_22 (by decide)
  have hb_34 := hT_30.1
  refine lv_pop hx hb dX37_tell_18 rfl ?_
  refine lv_aload_n hx hb dX37_tell_19 rfl (lv_at hl 1 rfl) ?_
  refine mm_callV (As := []) (rest := []) ⟨hx, hb, hml, hown, hts⟩ hE hST hA (c_J19_length l Z (M := M_26) (h0 := b) (f0 := (some ar_28)) (f1 := 0) (f2 := false) (f3 := (nI (ap (ap (ap ss ([91])) (dgx (nI k))) ([58])).1.length)) hb_34) (cwV 0 hts (lw_V q1977 q1483 q2860 q93 q1484) rfl rfl rfl (by decide +kernel) ⟨(by (try dsimp only); omega), (by (try dsimp only); omega)⟩) hM hS mm_cJ19 hb_34 rfl hl.1 (Nat.le_of_ble_eq_true rfl) dX37_tell_20 rfl ⟨(by (try dsimp only); omega), (by (try dsimp only); omega)⟩ (fun _ _ _ _ _ _ h9 => h9.elim) (fun v_35 M_36 H locs hp_37 hM hS => ?_)
  obtain ⟨rfl, eM_36⟩ := hp_37
  rw [eM_36] at hM
  refine lv_sipush (v := 300) hx hb dX37_tell_23 (by decide) ?_
  refine lv_icmp_gt (tgt := 37) hx hb dX37_tell_26 (by decide) (fun c_38 => ?_) (fun c_38 => ?_)
  · skip
    have h3 : ¬ (ap (ap (ap ss ([91])) (dgx (nI k))) ([58])).1.length ≤ 300 := fun h9 => absurd c_38 (Int32.not_lt.2 ((nI_leI (a := (ap (ap (ap ss ([91])) (dgx (nI k))) ([58])).1.length) (b := 300) (by omega) (by omega)).2 h9))
    rw [if_neg h3] at hF ⊢
    refine lv_aload_n hx hb dX37_tell_37 rfl (lv_at hl 1 rfl) ?_
    refine lv_bipush (v := 93) hx hb dX37_tell_38 (by decide) ?_
    have hrmw_39 : tb_mk ((ap (ap (ap ss ([91])) (dgx (nI k))) ([58])).1.length + 1) (ap (ap (ap ss ([91])) (dgx (nI k))) ([58])).2 + (ap (ap (ap ss ([91])) (dgx (nI k))) ([58])).2 ≤ (ap (ap (ap (ap ss ([91])) (dgx (nI k))) ([58])) ([93])).2 ∧ tb_ms ((ap (ap (ap ss ([91])) (dgx (nI k))) ([58])).1.length + 1) (ap (ap (ap ss ([91])) (dgx (nI k))) ([58])).2 + 2 * (ap (ap (ap ss ([91])) (dgx (nI k))) ([58])).2 ≤ 2 * (ap (ap (ap (ap ss ([91])) (dgx (nI k))) ([58])) ([93])).2 := rm_ap (ap (ap (ap ss ([91])) (dgx (nI k))) ([58])) ([93])
    have hlw_39 : (ap (ap (ap (ap ss ([91])) (dgx (nI k))) ([58])) ([93])).1.length = ((ap (ap (ap ss ([91])) (dgx (nI k))) ([58])).1.length + 1) := ap_len _ _
    have hcw_39 : (ap (ap (ap (ap ss ([91])) (dgx (nI k))) ([58])) ([93])).2 ≤ 1500 := ap_cap (by omega) (show ((ap (ap (ap ss ([91])) (dgx (nI k))) ([58])).1.length + 1) ≤ 700 by omega)
    rw [show (93 : Int32) = nI 93 from by decide]
    refine mm_callV (As := [.int (nI 93)]) (rest := []) ⟨hx, hb, hml, hown, hts⟩ hE hST hA (c_J19_append_3 l Z (k := 93) hT_30 (by omega) (by decide) (by omega)) (cwV 1 hts (lw_V q1975 q1627 q1628 q93 q1629) rfl rfl rfl (by decide +kernel) ⟨(by (try dsimp only); omega), (by (try dsimp only); omega)⟩) hM hS mm_cJ19 hb_34 rfl hl.1 (Nat.le_of_ble_eq_true rfl) dX37_tell_40 rfl ⟨(by (try dsimp only); first | omega | (simp only [List.length_singleton, List.length_nil]; omega)), (by (try dsimp only); first | omega | (simp only [List.length_singleton, List.length_nil]; omega))⟩ (fun _ _ _ _ _ _ h9 => h9.elim) (fun v_40 M_41 H locs hp_42 hM hS => ?_)
    obtain ⟨rfl, hp9⟩ := hp_42
    obtain ⟨ar_43, B_44⟩ := BF.of (s := (ap (ap (ap ss ([91])) (dgx (nI k))) ([58]))) (ds := [93]) hp9
    have hT_45 := B_44.1
    have hx_46 := B_44.tx hT_30 hx_31
    have B_47 := B_32.trans B_44
    have hc_48 := (B_44.Kt hT_30).1 _ _ _ hc_33 (by decide)
    have hb_49 := hT_45.1
    refine lv_pop hx hb dX37_tell_43 rfl ?_
    exact mm_retv hx hb hr hlk hM hS ⟨rfl, _, B_47⟩ dX37_tell_44 (by (try dsimp only); omega) (by (try dsimp only); omega)
  · skip
    have h3 : (ap (ap (ap ss ([91])) (dgx (nI k))) ([58])).1.length ≤ 300 := (nI_leI (a := (ap (ap (ap ss ([91])) (dgx (nI k))) ([58])).1.length) (b := 300) (by omega) (by omega)).1 (Int32.not_lt.1 c_38)
    rw [if_pos h3] at hF ⊢
    have hF2 := (le_ap (tt u false 0 true (ap (ap (ap ss ([91])) (dgx (nI k))) ([58]))) [93]).2.1
    refine lv_aload_n hx hb dX37_tell_29 rfl (lv_at hl 0 rfl) ?_
    refine va_get (D := Z.1) (ci := 31) (v := .ref bp) (C := RX37) (T := TX37) (N := 2) hx hb hts in_X37 hown hE.1 (hM.at hc_33) 0 rfl mm_cX37 1 (by decide) (hts _ q1943) (fun _ h9 => h9) rfl dX37_tell_30 ?_
    refine lv_aload_n hx hb dX37_tell_33 rfl (lv_at hl 1 rfl) ?_
    have hlw_39 : (tt u false 0 true (ap (ap (ap ss ([91])) (dgx (nI k))) ([58]))).1.length ≤ 670 - (ap (ap (ap ss ([91])) (dgx (nI k))) ([58])).1.length := tt_len _ _ _ _ (by omega)
    have hcw_39 : (tt u false 0 true (ap (ap (ap ss ([91])) (dgx (nI k))) ([58]))).2 ≤ 1500 := tt_cap (by omega) (by omega)
    have hgw_39 : (ap (ap (ap ss ([91])) (dgx (nI k))) ([58])).1.length ≤ (tt u false 0 true (ap (ap (ap ss ([91])) (dgx (nI k))) ([58]))).1.length := (le_tt _ _ _ _ _).len
    have hdw_39 : (ap (ap (ap ss ([91])) (dgx (nI k))) ([58])).2 ≤ (tt u false 0 true (ap (ap (ap ss ([91])) (dgx (nI k))) ([58]))).2 := (le_tt _ _ _ _ _).2.1
    have hihw_39 := ihu (ap (ap (ap ss ([91])) (dgx (nI k))) ([58])) M_26 bp b ar_28 (by omega) (by omega) hT_30 hx_31 (cr.monoT (B_29.Kt hT_19) _ _ _ _ (cr.monoT (B_18.Kt hT_8) _ _ _ _ (cr.monoT (B_7.Kt hT9) _ _ _ _ hu9)))
    cases u with
    | natCast n9 =>
      have hcr9 := (cr.monoT (B_29.Kt hT_19) _ _ _ _ (cr.monoT (B_18.Kt hT_8) _ _ _ _ (cr.monoT (B_7.Kt hT9) _ _ _ _ hu9)))
      simp only [cr] at hcr9
      obtain ⟨a9, e9, hq9⟩ := hcr9
      cases e9
      refine mm_callU (As := [.ref b]) (rest := []) ⟨hx, hb, hml, hown, hts⟩ hE hST hA (hihw_39.1 _ rfl) (va_cwA (x := ⟨"RowenTongue$Value", "tell", "(Ljava/lang/StringBuilder;)V"⟩) (C := RX33) (owner := "RowenTongue$Value") 1 hts (lw_app (lw_in _ [1978, 1958, 1959, 1960, 106] (by decide +kernel) (by decide +kernel)) (lw_meth q1961)) rfl rfl rfl (hE.2.1 _ q1957 rfl) (by decide +kernel) ⟨(by (try dsimp only); omega), (by (try dsimp only); omega)⟩) hM hS mm_cX33 hq9 rfl hl.1 (Nat.le_of_ble_eq_true rfl) dX37_tell_34 rfl ⟨(by (try dsimp only); omega), (by (try dsimp only); omega)⟩ (fun _ _ _ _ _ _ h9 => h9.elim) (fun v_40 M_41 H locs hp_42 hM hS => ?_)
      obtain ⟨rfl, ar_43, B_44⟩ := hp_42
      have hT_45 := B_44.1
      have hx_46 := B_44.tx hT_30 hx_31
      have B_47 := B_32.trans B_44
      have hc_48 := (B_44.Kt hT_30).1 _ _ _ hc_33 (by decide)
      have hb_49 := hT_45.1
      refine lv_aload_n hx hb dX37_tell_37 rfl (lv_at hl 1 rfl) ?_
      refine lv_bipush (v := 93) hx hb dX37_tell_38 (by decide) ?_
      have hrmw_50 : tb_mk ((tt (.natCast n9) false 0 true (ap (ap (ap ss ([91])) (dgx (nI k))) ([58]))).1.length + 1) (tt (.natCast n9) false 0 true (ap (ap (ap ss ([91])) (dgx (nI k))) ([58]))).2 + (tt (.natCast n9) false 0 true (ap (ap (ap ss ([91])) (dgx (nI k))) ([58]))).2 ≤ (ap (tt (.natCast n9) false 0 true (ap (ap (ap ss ([91])) (dgx (nI k))) ([58]))) ([93])).2 ∧ tb_ms ((tt (.natCast n9) false 0 true (ap (ap (ap ss ([91])) (dgx (nI k))) ([58]))).1.length + 1) (tt (.natCast n9) false 0 true (ap (ap (ap ss ([91])) (dgx (nI k))) ([58]))).2 + 2 * (tt (.natCast n9) false 0 true (ap (ap (ap ss ([91])) (dgx (nI k))) ([58]))).2 ≤ 2 * (ap (tt (.natCast n9) false 0 true (ap (ap (ap ss ([91])) (dgx (nI k))) ([58]))) ([93])).2 := rm_ap (tt (.natCast n9) false 0 true (ap (ap (ap ss ([91])) (dgx (nI k))) ([58]))) ([93])
      have hlw_50 : (ap (tt (.natCast n9) false 0 true (ap (ap (ap ss ([91])) (dgx (nI k))) ([58]))) ([93])).1.length = ((tt (.natCast n9) false 0 true (ap (ap (ap ss ([91])) (dgx (nI k))) ([58]))).1.length + 1) := ap_len _ _
      have hcw_50 : (ap (tt (.natCast n9) false 0 true (ap (ap (ap ss ([91])) (dgx (nI k))) ([58]))) ([93])).2 ≤ 1500 := ap_cap (by omega) (show ((tt (.natCast n9) false 0 true (ap (ap (ap ss ([91])) (dgx (nI k))) ([58]))).1.length + 1) ≤ 700 by omega)
      rw [show (93 : Int32) = nI 93 from by decide]
      refine mm_callV (As := [.int (nI 93)]) (rest := []) ⟨hx, hb, hml, hown, hts⟩ hE hST hA (c_J19_append_3 l Z (k := 93) hT_45 (by omega) (by decide) (by omega)) (cwV 1 hts (lw_V q1975 q1627 q1628 q93 q1629) rfl rfl rfl (by decide +kernel) ⟨(by (try dsimp only); omega), (by (try dsimp only); omega)⟩) hM hS mm_cJ19 hb_49 rfl hl.1 (Nat.le_of_ble_eq_true rfl) dX37_tell_40 rfl ⟨(by (try dsimp only); first | omega | (simp only [List.length_singleton, List.length_nil]; omega)), (by (try dsimp only); first | omega | (simp only [List.length_singleton, List.length_nil]; omega))⟩ (fun _ _ _ _ _ _ h9 => h9.elim) (fun v_51 M_52 H locs hp_53 hM hS => ?_)
      obtain ⟨rfl, hp9⟩ := hp_53
      obtain ⟨ar_54, B_55⟩ := BF.of (s := (tt (.natCast n9) false 0 true (ap (ap (ap ss ([91])) (dgx (nI k))) ([58])))) (ds := [93]) hp9
      have hT_56 := B_55.1
      have hx_57 := B_55.tx hT_45 hx_46
      have B_58 := B_47.trans B_55
      have hc_59 := (B_55.Kt hT_45).1 _ _ _ hc_48 (by decide)
      have hb_60 := hT_56.1
      refine lv_pop hx hb dX37_tell_43 rfl ?_
      exact mm_retv hx hb hr hlk hM hS ⟨rfl, _, B_58⟩ dX37_tell_44 (by (try dsimp only); omega) (by (try dsimp only); omega)
    | sub t9 e8 =>
      have hcr9 := (cr.monoT (B_29.Kt hT_19) _ _ _ _ (cr.monoT (B_18.Kt hT_8) _ _ _ _ (cr.monoT (B_7.Kt hT9) _ _ _ _ hu9)))
      obtain ⟨t8, rfl⟩ : ∃ t8, t9 = .natCast t8 := by cases t9 <;> first | exact ⟨_, rfl⟩ | (simp [cr] at hcr9; done)
      simp only [cr] at hcr9
      obtain ⟨a9, r8, j8, b9, sc9, e9, -, -, -, hq9, -⟩ := hcr9
      cases e9
      refine mm_callU (As := [.ref b]) (rest := []) ⟨hx, hb, hml, hown, hts⟩ hE hST hA (hihw_39.2.1 _ _ rfl) (va_cwA (x := ⟨"RowenTongue$Value", "tell", "(Ljava/lang/StringBuilder;)V"⟩) (C := RX34) (owner := "RowenTongue$Value") 1 hts (lw_app (lw_in _ [1978, 1958, 1983, 1979, 107] (by decide +kernel) (by decide +kernel)) (lw_meth q1980)) rfl rfl rfl (hE.2.1 _ q1957 rfl) (by decide +kernel) ⟨(by (try dsimp only); omega), (by (try dsimp only); omega)⟩) hM hS mm_cX34 hq9 rfl hl.1 (Nat.le_of_ble_eq_true rfl) dX37_tell_34 rfl ⟨(by (try dsimp only); omega), (by (try dsimp only); omega)⟩ (fun _ _ _ _ _ _ h9 => h9.elim) (fun v_40 M_41 H locs hp_42 hM hS => ?_)
      obtain ⟨rfl, ar_43, B_44⟩ := hp_42
      have hT_45 := B_44.1
      have hx_46 := B_44.tx hT_30 hx_31
      have B_47 := B_32.trans B_44
      have hc_48 := (B_44.Kt hT_30).1 _ _ _ hc_33 (by decide)
      have hb_49 := hT_45.1
      refine lv_aload_n hx hb dX37_tell_37 rfl (lv_at hl 1 rfl) ?_
      refine lv_bipush (v := 93) hx hb dX37_tell_38 (by decide) ?_
      have hrmw_50 : tb_mk ((tt (.sub (.natCast t8) e8) false 0 true (ap (ap (ap ss ([91])) (dgx (nI k))) ([58]))).1.length + 1) (tt (.sub (.natCast t8) e8) false 0 true (ap (ap (ap ss ([91])) (dgx (nI k))) ([58]))).2 + (tt (.sub (.natCast t8) e8) false 0 true (ap (ap (ap ss ([91])) (dgx (nI k))) ([58]))).2 ≤ (ap (tt (.sub (.natCast t8) e8) false 0 true (ap (ap (ap ss ([91])) (dgx (nI k))) ([58]))) ([93])).2 ∧ tb_ms ((tt (.sub (.natCast t8) e8) false 0 true (ap (ap (ap ss ([91])) (dgx (nI k))) ([58]))).1.length + 1) (tt (.sub (.natCast t8) e8) false 0 true (ap (ap (ap ss ([91])) (dgx (nI k))) ([58]))).2 + 2 * (tt (.sub (.natCast t8) e8) false 0 true (ap (ap (ap ss ([91])) (dgx (nI k))) ([58]))).2 ≤ 2 * (ap (tt (.sub (.natCast t8) e8) false 0 true (ap (ap (ap ss ([91])) (dgx (nI k))) ([58]))) ([93])).2 := rm_ap (tt (.sub (.natCast t8) e8) false 0 true (ap (ap (ap ss ([91])) (dgx (nI k))) ([58]))) ([93])
      have hlw_50 : (ap (tt (.sub (.natCast t8) e8) false 0 true (ap (ap (ap ss ([91])) (dgx (nI k))) ([58]))) ([93])).1.length = ((tt (.sub (.natCast t8) e8) false 0 true (ap (ap (ap ss ([91])) (dgx (nI k))) ([58]))).1.length + 1) := ap_len _ _
      have hcw_50 : (ap (tt (.sub (.natCast t8) e8) false 0 true (ap (ap (ap ss ([91])) (dgx (nI k))) ([58]))) ([93])).2 ≤ 1500 := ap_cap (by omega) (show ((tt (.sub (.natCast t8) e8) false 0 true (ap (ap (ap ss ([91])) (dgx (nI k))) ([58]))).1.length + 1) ≤ 700 by omega)
      rw [show (93 : Int32) = nI 93 from by decide]
      refine mm_callV (As := [.int (nI 93)]) (rest := []) ⟨hx, hb, hml, hown, hts⟩ hE hST hA (c_J19_append_3 l Z (k := 93) hT_45 (by omega) (by decide) (by omega)) (cwV 1 hts (lw_V q1975 q1627 q1628 q93 q1629) rfl rfl rfl (by decide +kernel) ⟨(by (try dsimp only); omega), (by (try dsimp only); omega)⟩) hM hS mm_cJ19 hb_49 rfl hl.1 (Nat.le_of_ble_eq_true rfl) dX37_tell_40 rfl ⟨(by (try dsimp only); first | omega | (simp only [List.length_singleton, List.length_nil]; omega)), (by (try dsimp only); first | omega | (simp only [List.length_singleton, List.length_nil]; omega))⟩ (fun _ _ _ _ _ _ h9 => h9.elim) (fun v_51 M_52 H locs hp_53 hM hS => ?_)
      obtain ⟨rfl, hp9⟩ := hp_53
      obtain ⟨ar_54, B_55⟩ := BF.of (s := (tt (.sub (.natCast t8) e8) false 0 true (ap (ap (ap ss ([91])) (dgx (nI k))) ([58])))) (ds := [93]) hp9
      have hT_56 := B_55.1
      have hx_57 := B_55.tx hT_45 hx_46
      have B_58 := B_47.trans B_55
      have hc_59 := (B_55.Kt hT_45).1 _ _ _ hc_48 (by decide)
      have hb_60 := hT_56.1
      refine lv_pop hx hb dX37_tell_43 rfl ?_
      exact mm_retv hx hb hr hlk hM hS ⟨rfl, _, B_58⟩ dX37_tell_44 (by (try dsimp only); omega) (by (try dsimp only); omega)
    | add x9 r9 =>
      obtain ⟨a9, q9, f9, e9, hq9, -, -⟩ := cr_rec.1 (cr.monoT (B_29.Kt hT_19) _ _ _ _ (cr.monoT (B_18.Kt hT_8) _ _ _ _ (cr.monoT (B_7.Kt hT9) _ _ _ _ hu9)))
      cases e9
      refine mm_callU (As := [.ref b]) (rest := []) ⟨hx, hb, hml, hown, hts⟩ hE hST hA (hihw_39.2.2.1 _ _ rfl) (va_cwA (x := ⟨"RowenTongue$Value", "tell", "(Ljava/lang/StringBuilder;)V"⟩) (C := RX36) (owner := "RowenTongue$Value") 1 hts (lw_app (lw_in _ [1978, 1958, 1963, 1964, 109] (by decide +kernel) (by decide +kernel)) (lw_meth q1965)) rfl rfl rfl (hE.2.1 _ q1957 rfl) (by decide +kernel) ⟨(by (try dsimp only); omega), (by (try dsimp only); omega)⟩) hM hS mm_cX36 hq9 rfl hl.1 (Nat.le_of_ble_eq_true rfl) dX37_tell_34 rfl ⟨(by (try dsimp only); omega), (by (try dsimp only); omega)⟩ (fun _ _ _ _ _ _ h9 => h9.elim) (fun v_40 M_41 H locs hp_42 hM hS => ?_)
      obtain ⟨rfl, ar_43, B_44⟩ := hp_42
      have hT_45 := B_44.1
      have hx_46 := B_44.tx hT_30 hx_31
      have B_47 := B_32.trans B_44
      have hc_48 := (B_44.Kt hT_30).1 _ _ _ hc_33 (by decide)
      have hb_49 := hT_45.1
      refine lv_aload_n hx hb dX37_tell_37 rfl (lv_at hl 1 rfl) ?_
      refine lv_bipush (v := 93) hx hb dX37_tell_38 (by decide) ?_
      have hrmw_50 : tb_mk ((tt (.add x9 r9) false 0 true (ap (ap (ap ss ([91])) (dgx (nI k))) ([58]))).1.length + 1) (tt (.add x9 r9) false 0 true (ap (ap (ap ss ([91])) (dgx (nI k))) ([58]))).2 + (tt (.add x9 r9) false 0 true (ap (ap (ap ss ([91])) (dgx (nI k))) ([58]))).2 ≤ (ap (tt (.add x9 r9) false 0 true (ap (ap (ap ss ([91])) (dgx (nI k))) ([58]))) ([93])).2 ∧ tb_ms ((tt (.add x9 r9) false 0 true (ap (ap (ap ss ([91])) (dgx (nI k))) ([58]))).1.length + 1) (tt (.add x9 r9) false 0 true (ap (ap (ap ss ([91])) (dgx (nI k))) ([58]))).2 + 2 * (tt (.add x9 r9) false 0 true (ap (ap (ap ss ([91])) (dgx (nI k))) ([58]))).2 ≤ 2 * (ap (tt (.add x9 r9) false 0 true (ap (ap (ap ss ([91])) (dgx (nI k))) ([58]))) ([93])).2 := rm_ap (tt (.add x9 r9) false 0 true (ap (ap (ap ss ([91])) (dgx (nI k))) ([58]))) ([93])
      have hlw_50 : (ap (tt (.add x9 r9) false 0 true (ap (ap (ap ss ([91])) (dgx (nI k))) ([58]))) ([93])).1.length = ((tt (.add x9 r9) false 0 true (ap (ap (ap ss ([91])) (dgx (nI k))) ([58]))).1.length + 1) := ap_len _ _
      have hcw_50 : (ap (tt (.add x9 r9) false 0 true (ap (ap (ap ss ([91])) (dgx (nI k))) ([58]))) ([93])).2 ≤ 1500 := ap_cap (by omega) (show ((tt (.add x9 r9) false 0 true (ap (ap (ap ss ([91])) (dgx (nI k))) ([58]))).1.length + 1) ≤ 700 by omega)
      rw [show (93 : Int32) = nI 93 from by decide]
      refine mm_callV (As := [.int (nI 93)]) (rest := []) ⟨hx, hb, hml, hown, hts⟩ hE hST hA (c_J19_append_3 l Z (k := 93) hT_45 (by omega) (by decide) (by omega)) (cwV 1 hts (lw_V q1975 q1627 q1628 q93 q1629) rfl rfl rfl (by decide +kernel) ⟨(by (try dsimp only); omega), (by (try dsimp only); omega)⟩) hM hS mm_cJ19 hb_49 rfl hl.1 (Nat.le_of_ble_eq_true rfl) dX37_tell_40 rfl ⟨(by (try dsimp only); first | omega | (simp only [List.length_singleton, List.length_nil]; omega)), (by (try dsimp only); first | omega | (simp only [List.length_singleton, List.length_nil]; omega))⟩ (fun _ _ _ _ _ _ h9 => h9.elim) (fun v_51 M_52 H locs hp_53 hM hS => ?_)
      obtain ⟨rfl, hp9⟩ := hp_53
      obtain ⟨ar_54, B_55⟩ := BF.of (s := (tt (.add x9 r9) false 0 true (ap (ap (ap ss ([91])) (dgx (nI k))) ([58])))) (ds := [93]) hp9
      have hT_56 := B_55.1
      have hx_57 := B_55.tx hT_45 hx_46
      have B_58 := B_47.trans B_55
      have hc_59 := (B_55.Kt hT_45).1 _ _ _ hc_48 (by decide)
      have hb_60 := hT_56.1
      refine lv_pop hx hb dX37_tell_43 rfl ?_
      exact mm_retv hx hb hr hlk hM hS ⟨rfl, _, B_58⟩ dX37_tell_44 (by (try dsimp only); omega) (by (try dsimp only); omega)
    | pow u9 k9 =>
      have hcr9 := (cr.monoT (B_29.Kt hT_19) _ _ _ _ (cr.monoT (B_18.Kt hT_8) _ _ _ _ (cr.monoT (B_7.Kt hT9) _ _ _ _ hu9)))
      simp only [cr] at hcr9
      obtain ⟨a9, b9, e9, hq9, -⟩ := hcr9
      cases e9
      refine mm_callU (As := [.ref b]) (rest := []) ⟨hx, hb, hml, hown, hts⟩ hE hST hA (hihw_39.2.2.2 _ _ rfl) (va_cwA (x := ⟨"RowenTongue$Value", "tell", "(Ljava/lang/StringBuilder;)V"⟩) (C := RX37) (owner := "RowenTongue$Value") 1 hts (lw_app (lw_in _ [1978, 1958, 1982, 1973, 110] (by decide +kernel) (by decide +kernel)) (lw_meth q1974)) rfl rfl rfl (hE.2.1 _ q1957 rfl) (by decide +kernel) ⟨(by (try dsimp only); omega), (by (try dsimp only); omega)⟩) hM hS mm_cX37 hq9 rfl hl.1 (Nat.le_of_ble_eq_true rfl) dX37_tell_34 rfl ⟨(by (try dsimp only); omega), (by (try dsimp only); omega)⟩ (fun _ _ _ _ _ _ h9 => h9.elim) (fun v_40 M_41 H locs hp_42 hM hS => ?_)
      obtain ⟨rfl, ar_43, B_44⟩ := hp_42
      have hT_45 := B_44.1
      have hx_46 := B_44.tx hT_30 hx_31
      have B_47 := B_32.trans B_44
      have hc_48 := (B_44.Kt hT_30).1 _ _ _ hc_33 (by decide)
      have hb_49 := hT_45.1
      refine lv_aload_n hx hb dX37_tell_37 rfl (lv_at hl 1 rfl) ?_
      refine lv_bipush (v := 93) hx hb dX37_tell_38 (by decide) ?_
      have hrmw_50 : tb_mk ((tt (.pow u9 k9) false 0 true (ap (ap (ap ss ([91])) (dgx (nI k))) ([58]))).1.length + 1) (tt (.pow u9 k9) false 0 true (ap (ap (ap ss ([91])) (dgx (nI k))) ([58]))).2 + (tt (.pow u9 k9) false 0 true (ap (ap (ap ss ([91])) (dgx (nI k))) ([58]))).2 ≤ (ap (tt (.pow u9 k9) false 0 true (ap (ap (ap ss ([91])) (dgx (nI k))) ([58]))) ([93])).2 ∧ tb_ms ((tt (.pow u9 k9) false 0 true (ap (ap (ap ss ([91])) (dgx (nI k))) ([58]))).1.length + 1) (tt (.pow u9 k9) false 0 true (ap (ap (ap ss ([91])) (dgx (nI k))) ([58]))).2 + 2 * (tt (.pow u9 k9) false 0 true (ap (ap (ap ss ([91])) (dgx (nI k))) ([58]))).2 ≤ 2 * (ap (tt (.pow u9 k9) false 0 true (ap (ap (ap ss ([91])) (dgx (nI k))) ([58]))) ([93])).2 := rm_ap (tt (.pow u9 k9) false 0 true (ap (ap (ap ss ([91])) (dgx (nI k))) ([58]))) ([93])
      have hlw_50 : (ap (tt (.pow u9 k9) false 0 true (ap (ap (ap ss ([91])) (dgx (nI k))) ([58]))) ([93])).1.length = ((tt (.pow u9 k9) false 0 true (ap (ap (ap ss ([91])) (dgx (nI k))) ([58]))).1.length + 1) := ap_len _ _
      have hcw_50 : (ap (tt (.pow u9 k9) false 0 true (ap (ap (ap ss ([91])) (dgx (nI k))) ([58]))) ([93])).2 ≤ 1500 := ap_cap (by omega) (show ((tt (.pow u9 k9) false 0 true (ap (ap (ap ss ([91])) (dgx (nI k))) ([58]))).1.length + 1) ≤ 700 by omega)
      rw [show (93 : Int32) = nI 93 from by decide]
      refine mm_callV (As := [.int (nI 93)]) (rest := []) ⟨hx, hb, hml, hown, hts⟩ hE hST hA (c_J19_append_3 l Z (k := 93) hT_45 (by omega) (by decide) (by omega)) (cwV 1 hts (lw_V q1975 q1627 q1628 q93 q1629) rfl rfl rfl (by decide +kernel) ⟨(by (try dsimp only); omega), (by (try dsimp only); omega)⟩) hM hS mm_cJ19 hb_49 rfl hl.1 (Nat.le_of_ble_eq_true rfl) dX37_tell_40 rfl ⟨(by (try dsimp only); first | omega | (simp only [List.length_singleton, List.length_nil]; omega)), (by (try dsimp only); first | omega | (simp only [List.length_singleton, List.length_nil]; omega))⟩ (fun _ _ _ _ _ _ h9 => h9.elim) (fun v_51 M_52 H locs hp_53 hM hS => ?_)
      obtain ⟨rfl, hp9⟩ := hp_53
      obtain ⟨ar_54, B_55⟩ := BF.of (s := (tt (.pow u9 k9) false 0 true (ap (ap (ap ss ([91])) (dgx (nI k))) ([58])))) (ds := [93]) hp9
      have hT_56 := B_55.1
      have hx_57 := B_55.tx hT_45 hx_46
      have B_58 := B_47.trans B_55
      have hc_59 := (B_55.Kt hT_45).1 _ _ _ hc_48 (by decide)
      have hb_60 := hT_56.1
      refine lv_pop hx hb dX37_tell_43 rfl ?_
      exact mm_retv hx hb hr hlk hM hS ⟨rfl, _, B_58⟩ dX37_tell_44 (by (try dsimp only); omega) (by (try dsimp only); omega)
    | _ => exact absurd (cr.monoT (B_29.Kt hT_19) _ _ _ _ (cr.monoT (B_18.Kt hT_8) _ _ _ _ (cr.monoT (B_7.Kt hT9) _ _ _ _ hu9))) (by simp [cr])
set_option maxHeartbeats 4000000 in
set_option maxRecDepth 100000 in
theorem c_X36_tell (l : Launch) (Z : mm_G) {M : mm_M} {ss : List Nat × Nat} {va b ar : Nat} (hl9 : ss.1.length ≤ 320) (hc9 : ss.2 ≤ 1500) (hT9 : TB Z M b ar ss.2 ss.1) (hx9 : tx_T Z M ar) {ad : List Nat} {T : List pt_R} {x0 r0 : ev} (hv9 : cr Z M ad T (.add x0 r0) 0 (fun _ => none) (some va)) (ihN : ∀ v : ev, SizeOf.sizeOf v < SizeOf.sizeOf (Lean.Grind.CommRing.Expr.add x0 r0) → tellC l Z ad T v) : mm_C l Z yX36_tell (ws_ yX36_tell cX36_tell 4 none) { frames := 340 - ss.1.length + 10, cells := (tt (.add x0 r0) false 0 true ss).2 - ss.2, slots := 2 * (tt (.add x0 r0) false 0 true ss).2 - 2 * ss.2, locals := 60 * (340 - ss.1.length) + 600 } [.ref va, .ref b] M ((fun v9 M' => v9 = none ∧ ∃ ar', BF Z M M' b ar ar' (tt (.add x0 r0) false 0 true ss))) mm_nx := by
  refine mm_ofW (cc := cX36_tell) (maxL := 4) (ret := none) (by decide) rfl (Nat.le_of_ble_eq_true rfl) ?_
  intro p e s m below meth c A ls hx hb hr hlk hml hown hmn hts htab hE hST hA hM hS hl
  replace hl : lv_has ls 4 [(0, .ref va), (1, .ref b)] := hl
  have hlF := tt_len (.add x0 r0) 0 true ss hl9
  have hcF := tt_cap (v := .add x0 r0) (i := 0) (f := true) hl9 hc9
  rw [tt_rec] at hlF hcF
  rw [ap_len, List.length_singleton] at hlF
  simp only [tt_rec]
  obtain ⟨a8, qa, ff, e8, hva, hqa, hra⟩ := cr_rec.1 hv9
  cases e8
  obtain ⟨G, hG0⟩ : ∃ G, tt (.add x0 r0) true 0 true (ap ss [123]) = G := ⟨_, rfl⟩
  rw [hG0] at hlF hcF
  simp only [hG0]
  have hF : G.2 ≤ (ap G [125]).2 := (le_ap _ _).2.1
  have hm1 : le_s (ap ss [123]) G := by rw [← hG0]; exact le_tt _ _ _ _ _
  have hm2 := hm1.2.1
  have hm0 := (le_ap ss [123]).2.1
  have hmL := hm1.len
  have hb_1 := hT9.1
  refine lv_aload_n hx hb dX36_tell_0 rfl (lv_at hl 1 rfl) ?_
  refine lv_bipush (v := 123) hx hb dX36_tell_1 (by decide) ?_
  have hrmw_2 : tb_mk (ss.1.length + 1) ss.2 + ss.2 ≤ (ap ss ([123])).2 ∧ tb_ms (ss.1.length + 1) ss.2 + 2 * ss.2 ≤ 2 * (ap ss ([123])).2 := rm_ap ss ([123])
  have hlw_2 : (ap ss ([123])).1.length = (ss.1.length + 1) := ap_len _ _
  have hcw_2 : (ap ss ([123])).2 ≤ 1500 := ap_cap (by omega) (show (ss.1.length + 1) ≤ 700 by omega)
  rw [show (123 : Int32) = nI 123 from by decide]
  refine mm_callV (As := [.int (nI 123)]) (rest := []) ⟨hx, hb, hml, hown, hts⟩ hE hST hA (c_J19_append_3 l Z (k := 123) hT9 (by omega) (by decide) (by omega)) (cwV 1 hts (lw_V q1966 q1627 q1628 q93 q1629) rfl rfl rfl (by decide +kernel) ⟨(by (try dsimp only); omega), (by (try dsimp only); omega)⟩) hM hS mm_cJ19 hb_1 rfl hl.1 (Nat.le_of_ble_eq_true rfl) dX36_tell_3 rfl ⟨(by (try dsimp only); first | omega | (simp only [List.length_singleton, List.length_nil]; omega)), (by (try dsimp only); first | omega | (simp only [List.length_singleton, List.length_nil]; omega))⟩ (fun _ _ _ _ _ _ h9 => h9.elim) (fun v_3 M_4 H locs hp_5 hM hS => ?_)
  obtain ⟨rfl, hp9⟩ := hp_5
  obtain ⟨ar_6, B_7⟩ := BF.of (s := ss) (ds := [123]) hp9
  have hT_8 := B_7.1
  have hx_9 := B_7.tx hT9 hx9
  have B_10 := (BF.rf hT9).trans B_7
  have hc_11 := (B_7.Kt hT9).1 _ _ _ hva (by decide)
  have hc_12 := (B_7.Kt hT9).2 _ _ _ _ hqa
  have hb_13 := hT_8.1
  refine lv_pop hx hb dX36_tell_6 rfl ?_
  refine lv_iconst (v := 1) hx hb dX36_tell_7 (by decide) ?_
  refine lv_istore_n hx hb dX36_tell_8 rfl hl (by decide) rfl (fun ls hl => ?_)
  replace hl : lv_has ls 4 [(2, .int 1), (0, .ref va), (1, .ref b)] := hl
  refine lv_iconst (v := 0) hx hb dX36_tell_9 (by decide) ?_
  refine lv_istore_n hx hb dX36_tell_10 rfl hl (by decide) rfl (fun ls hl => ?_)
  replace hl : lv_has ls 4 [(3, .int 0), (2, .int 1), (0, .ref va), (1, .ref b)] := hl
  refine mm_loopW (fun k M' ls cells slots => ∃ (i : Nat) (f : Bool) (r : ev) (s' : List Nat × Nat) (ar' : Nat), k = 10 - i ∧ i ≤ 10 ∧ lv_has ls 4 [(3, .int (nI i)), (2, .int (mm_b f)), (0, .ref va), (1, .ref b)] ∧ BF Z M M' b ar ar' s' ∧ tx_T Z M' ar' ∧ cr Z M ad T r (i + 2) ff none ∧ tt r true i f s' = G ∧ ss.1.length + 1 ≤ s'.1.length ∧ ss.2 ≤ s'.2 ∧ SizeOf.sizeOf r ≤ SizeOf.sizeOf (Lean.Grind.CommRing.Expr.add x0 r0) ∧ cells ≤ s'.2 - ss.2 ∧ slots ≤ 2 * s'.2 - 2 * ss.2) (fun k M3 ls H locs cells slots ih hI hM hS => ?_) ⟨0, true, _, _, _, rfl, by omega, lv_sub hl [0, 1, 2, 3] rfl, B_10, hx_9, hra, hG0, by omega, by omega, Nat.le_refl _, by (try dsimp only); omega, by (try dsimp only); omega⟩ hM hS
  obtain ⟨i, f, r, s', ar', rfl, hi10, hl, hB, htx, hr3, hG, hn1, hn2, hz3, hc3, hs3⟩ := hI
  have hTB := hB.1
  have hva3 := (hB.Kt hT9).1 _ _ _ hva (by decide)
  have hqa3 := (hB.Kt hT9).2 _ _ _ _ hqa
  have hsG : le_s s' G := hG ▸ le_tt r true i f s'
  have hsL := hsG.len
  have hsC := hsG.2.1
  have hb_14 := hTB.1
  refine lv_iload_n hx hb dX36_tell_11 rfl (lv_at hl 0 rfl) ?_
  refine lv_bipush (v := 10) hx hb dX36_tell_12 (by decide) ?_
  refine lv_icmp_ge (tgt := 79) hx hb dX36_tell_14 (by decide) (fun c_15 => ?_) (fun c_15 => ?_)
  · skip
    obtain rfl : i = 10 := by have := (nI_leI (a := 10) (b := i) (by omega) (by omega)).1 c_15; omega
    have hs9 : s' = G := by
      rw [← hG]
      cases r with
      | add x r' => exact absurd (cr_get (.add x r') 10 0 x hr3 rfl).2 (by omega)
      | _ => simp only [tt]
    obtain rfl : s' = G := hs9
    refine lv_aload_n hx hb dX36_tell_79 rfl (lv_at hl 3 rfl) ?_
    refine lv_bipush (v := 125) hx hb dX36_tell_80 (by decide) ?_
    have hrmw_16 : tb_mk (s'.1.length + 1) s'.2 + s'.2 ≤ (ap s' ([125])).2 ∧ tb_ms (s'.1.length + 1) s'.2 + 2 * s'.2 ≤ 2 * (ap s' ([125])).2 := rm_ap s' ([125])
    have hlw_16 : (ap s' ([125])).1.length = (s'.1.length + 1) := ap_len _ _
    have hcw_16 : (ap s' ([125])).2 ≤ 1500 := ap_cap (by omega) (show (s'.1.length + 1) ≤ 700 by omega)
    rw [show (125 : Int32) = nI 125 from by decide]
    refine mm_callV (As := [.int (nI 125)]) (rest := []) ⟨hx, hb, hml, hown, hts⟩ hE hST hA (c_J19_append_3 l Z (k := 125) hTB (by omega) (by decide) (by omega)) (cwV 1 hts (lw_V q1966 q1627 q1628 q93 q1629) rfl rfl rfl (by decide +kernel) ⟨(by (try dsimp only); omega), (by (try dsimp only); omega)⟩) hM hS mm_cJ19 hb_14 rfl hl.1 (Nat.le_of_ble_eq_true rfl) dX36_tell_82 rfl ⟨(by (try dsimp only); first | omega | (simp only [List.length_singleton, List.length_nil]; omega)), (by (try dsimp only); first | omega | (simp only [List.length_singleton, List.length_nil]; omega))⟩ (fun _ _ _ _ _ _ h9 => h9.elim) (fun v_17 M_18 H locs hp_19 hM hS => ?_)
    obtain ⟨rfl, hp9⟩ := hp_19
    obtain ⟨ar_20, B_21⟩ := BF.of (s := s') (ds := [125]) hp9
    have hT_22 := B_21.1
    have hx_23 := B_21.tx hTB htx
    have B_24 := hB.trans B_21
    have hc_25 := (B_21.Kt hTB).1 _ _ _ hva3 (by decide)
    have hc_26 := (B_21.Kt hTB).2 _ _ _ _ hqa3
    have hb_27 := hT_22.1
    refine lv_pop hx hb dX36_tell_85 rfl ?_
    exact mm_retv hx hb hr hlk hM hS ⟨rfl, _, B_24⟩ dX36_tell_86 (by (try dsimp only); omega) (by (try dsimp only); omega)
  · skip
    have hi : i < 10 := (nI_ltI (b := 10) (by omega) (by omega)).1 (Int32.not_le.1 c_15)
    obtain ⟨x, r', rfl⟩ : ∃ x r', r = .add x r' := by
      cases r with
      | add x r' => exact ⟨x, r', rfl⟩
      | var k9 => simp only [cr] at hr3; omega
      | _ => simp [cr] at hr3
    obtain ⟨hx9, hr4⟩ := cr_add.1 hr3
    simp only [tt] at hG
    have hz4 : SizeOf.sizeOf x < SizeOf.sizeOf (Lean.Grind.CommRing.Expr.add x0 r0) ∧ SizeOf.sizeOf r' ≤ SizeOf.sizeOf (Lean.Grind.CommRing.Expr.add x0 r0) := by simp at hz3 ⊢; omega
    refine lv_aload_n hx hb dX36_tell_17 rfl (lv_at hl 3 rfl) ?_
    refine mm_callV (As := []) (rest := []) ⟨hx, hb, hml, hown, hts⟩ hE hST hA (c_J19_length l Z (M := M3) (h0 := b) (f0 := (some ar')) (f1 := 0) (f2 := false) (f3 := (nI s'.1.length)) hb_14) (cwV 0 hts (lw_V q1967 q1483 q2860 q93 q1484) rfl rfl rfl (by decide +kernel) ⟨(by (try dsimp only); omega), (by (try dsimp only); omega)⟩) hM hS mm_cJ19 hb_14 rfl hl.1 (Nat.le_of_ble_eq_true rfl) dX36_tell_18 rfl ⟨(by (try dsimp only); omega), (by (try dsimp only); omega)⟩ (fun _ _ _ _ _ _ h9 => h9.elim) (fun v_16 M_17 H locs hp_18 hM hS => ?_)
    obtain ⟨rfl, eM_17⟩ := hp_18
    rw [eM_17] at hM
    refine lv_sipush (v := 300) hx hb dX36_tell_21 (by decide) ?_
    refine lv_icmp_gt (tgt := 79) hx hb dX36_tell_24 (by decide) (fun c_19 => ?_) (fun c_19 => ?_)
    · skip
      have h3 : ¬ s'.1.length ≤ 300 := fun h9 => absurd c_19 (Int32.not_lt.2 ((nI_leI (a := s'.1.length) (b := 300) (by omega) (by omega)).2 h9))
      rw [if_neg h3] at hG
      have hs9 : s' = G := hG
      obtain rfl : s' = G := hs9
      refine lv_aload_n hx hb dX36_tell_79 rfl (lv_at hl 3 rfl) ?_
      refine lv_bipush (v := 125) hx hb dX36_tell_80 (by decide) ?_
      have hrmw_20 : tb_mk (s'.1.length + 1) s'.2 + s'.2 ≤ (ap s' ([125])).2 ∧ tb_ms (s'.1.length + 1) s'.2 + 2 * s'.2 ≤ 2 * (ap s' ([125])).2 := rm_ap s' ([125])
      have hlw_20 : (ap s' ([125])).1.length = (s'.1.length + 1) := ap_len _ _
      have hcw_20 : (ap s' ([125])).2 ≤ 1500 := ap_cap (by omega) (show (s'.1.length + 1) ≤ 700 by omega)
      rw [show (125 : Int32) = nI 125 from by decide]
      refine mm_callV (As := [.int (nI 125)]) (rest := []) ⟨hx, hb, hml, hown, hts⟩ hE hST hA (c_J19_append_3 l Z (k := 125) hTB (by omega) (by decide) (by omega)) (cwV 1 hts (lw_V q1966 q1627 q1628 q93 q1629) rfl rfl rfl (by decide +kernel) ⟨(by (try dsimp only); omega), (by (try dsimp only); omega)⟩) hM hS mm_cJ19 hb_14 rfl hl.1 (Nat.le_of_ble_eq_true rfl) dX36_tell_82 rfl ⟨(by (try dsimp only); first | omega | (simp only [List.length_singleton, List.length_nil]; omega)), (by (try dsimp only); first | omega | (simp only [List.length_singleton, List.length_nil]; omega))⟩ (fun _ _ _ _ _ _ h9 => h9.elim) (fun v_21 M_22 H locs hp_23 hM hS => ?_)
      obtain ⟨rfl, hp9⟩ := hp_23
      obtain ⟨ar_24, B_25⟩ := BF.of (s := s') (ds := [125]) hp9
      have hT_26 := B_25.1
      have hx_27 := B_25.tx hTB htx
      have B_28 := hB.trans B_25
      have hc_29 := (B_25.Kt hTB).1 _ _ _ hva3 (by decide)
      have hc_30 := (B_25.Kt hTB).2 _ _ _ _ hqa3
      have hb_31 := hT_26.1
      refine lv_pop hx hb dX36_tell_85 rfl ?_
      exact mm_retv hx hb hr hlk hM hS ⟨rfl, _, B_28⟩ dX36_tell_86 (by (try dsimp only); omega) (by (try dsimp only); omega)
    · skip
      have h3 : s'.1.length ≤ 300 := (nI_leI (a := s'.1.length) (b := 300) (by omega) (by omega)).1 (Int32.not_lt.1 c_19)
      rw [if_pos h3] at hG
      refine lv_aload_n hx hb dX36_tell_27 rfl (lv_at hl 2 rfl) ?_
      refine va_get (D := Z.1) (ci := 30) (v := .ref qa) (C := RX36) (T := TX36) (N := 1) hx hb hts in_X36 hown hE.1 (hM.at hva3) 0 rfl mm_cX36 0 (by decide) (hts _ q1928) (fun _ h9 => h9) rfl dX36_tell_28 ?_
      refine lv_iload_n hx hb dX36_tell_31 rfl (lv_at hl 0 rfl) ?_
      refine mm_aald (k := i) hx hb hE hM 6 hqa3 rfl rfl hi (by decide) dX36_tell_32 ?_
      rcases hx9 with ⟨hxa, hfx⟩ | ⟨hxa, hmx⟩
      · skip
        rw [hfx]
        rw [if_pos hxa] at hG
        refine lv_ifnullN (tgt := 73) hx hb dX36_tell_33 (by decide) ?_
        obtain ⟨x_20, ex_20⟩ : ∃ z : Int32, z = (nI i) + 1 := ⟨_, rfl⟩
        refine lv_iinc (v := x_20) (lv' := [(3, .int x_20), (2, .int (mm_b f)), (0, .ref va), (1, .ref b)]) hx hb dX36_tell_73 hl (k := 0) rfl (by rw [ex_20]; rfl) (by decide) rfl (fun ls hl => ?_)
        rw [show x_20 = nI (i + 1) from by rw [ex_20]; exact nI_1 i] at hl
        refine lv_goto (tgt := 11) hx hb dX36_tell_76 (by decide) ?_
        refine ih (10 - (i + 1)) (by omega) _ _ _ _ _ _ ⟨i + 1, f, r', s', ar', rfl, hi, lv_sub hl [0, 1, 2, 3] rfl, hB, htx, hr4, hG, by omega, by omega, hz4.2, by (try dsimp only); omega, by (try dsimp only); omega⟩ hM hS
      · skip
        obtain ⟨xa, hfx, -⟩ := hmx.isV
        rw [hfx]
        rw [hfx] at hmx
        refine lv_ifnull hx hb dX36_tell_33 ?_
        rw [if_neg (by rw [hxa]; decide)] at hG
        have hdx := dgx_b (nI i)
        obtain ⟨-, -, -, ⟨sr0, hS0, ns0⟩, sr1, hS1, ns1⟩ := id htx
        cases f
        · skip
          replace hG : tt r' true (i + 1) false (tt x false 0 true (ap (ap (ap s' [44]) (dgx (nI i))) [58])) = G := hG
          have hmA : (ap s' [44]).2 ≤ (ap (ap s' [44]) (dgx (nI i))).2 := (le_ap _ _).2.1
          have hmB : (ap (ap s' [44]) (dgx (nI i))).2 ≤ (ap (ap (ap s' [44]) (dgx (nI i))) [58]).2 := (le_ap _ _).2.1
          have hmC := (le_tt x false 0 true (ap (ap (ap s' [44]) (dgx (nI i))) [58])).2.1
          have hmD : (tt x false 0 true (ap (ap (ap s' [44]) (dgx (nI i))) [58])).2 ≤ G.2 := by rw [← hG]; exact (le_tt _ _ _ _ _).2.1
          have hmE := (le_ap s' [44]).2.1
          refine lv_aload_n hx hb dX36_tell_36 rfl (lv_at hl 3 rfl) ?_
          refine lv_iload_n hx hb dX36_tell_37 rfl (lv_at hl 1 rfl) ?_
          refine lv_if_eq (tgt := 46) hx hb dX36_tell_38 (by decide) (fun _ => ?_) (fun h9 => absurd (by decide) h9)
          refine va_ldcS hx hb hown (hE.2.2.2.2.2.1 _ (List.mem_of_getElem? (i := 29) rfl)) dX36_tell_46 ?_
          have hrmw_20 : tb_mk (s'.1.length + 1) s'.2 + s'.2 ≤ (ap s' ([44])).2 ∧ tb_ms (s'.1.length + 1) s'.2 + 2 * s'.2 ≤ 2 * (ap s' ([44])).2 := rm_ap s' ([44])
          have hlw_20 : (ap s' ([44])).1.length = (s'.1.length + 1) := ap_len _ _
          have hcw_20 : (ap s' ([44])).2 ≤ 1500 := ap_cap (by omega) (show (s'.1.length + 1) ≤ 700 by omega)
          have hrsw_20 := rm_ap s' ([44] : List Nat)
          refine mm_callV (As := [.ref (Z.2.2.2 22)]) (rest := []) ⟨hx, hb, hml, hown, hts⟩ hE hST hA (c_J19_append l Z hTB (by omega) hS1 ns1) (cwV 1 hts (lw_V q1970 q1333 q1334 q93 q1335) rfl rfl rfl (by decide +kernel) ⟨(by (try dsimp only); omega), (by (try dsimp only); omega)⟩) hM hS mm_cJ19 hb_14 rfl hl.1 (Nat.le_of_ble_eq_true rfl) dX36_tell_48 rfl ⟨(by (try dsimp only); first | omega | (simp only [List.length_singleton, List.length_nil]; omega)), (by (try dsimp only); first | omega | (simp only [List.length_singleton, List.length_nil]; omega))⟩ (fun _ _ _ _ _ _ h9 => h9.elim) (fun v_21 M_22 H locs hp_23 hM hS => ?_)
          obtain ⟨rfl, hp9⟩ := hp_23
          obtain ⟨ar_24, B_25⟩ := BF.of (s := s') (ds := [44]) hp9
          have hT_26 := B_25.1
          have hx_27 := B_25.tx hTB htx
          have B_28 := hB.trans B_25
          have hc_29 := (B_25.Kt hTB).1 _ _ _ hva3 (by decide)
          have hc_30 := (B_25.Kt hTB).2 _ _ _ _ hqa3
          have hb_31 := hT_26.1
          refine lv_iload_n hx hb dX36_tell_51 rfl (lv_at hl 0 rfl) ?_
          have hrmw_32 : tb_mk ((ap s' ([44])).1.length + (dgx (nI i)).length) (ap s' ([44])).2 + (ap s' ([44])).2 ≤ (ap (ap s' ([44])) (dgx (nI i))).2 ∧ tb_ms ((ap s' ([44])).1.length + (dgx (nI i)).length) (ap s' ([44])).2 + 2 * (ap s' ([44])).2 ≤ 2 * (ap (ap s' ([44])) (dgx (nI i))).2 := rm_ap (ap s' ([44])) (dgx (nI i))
          have hlw_32 : (ap (ap s' ([44])) (dgx (nI i))).1.length = ((ap s' ([44])).1.length + (dgx (nI i)).length) := ap_len _ _
          have hcw_32 : (ap (ap s' ([44])) (dgx (nI i))).2 ≤ 1500 := ap_cap (by omega) (show ((ap s' ([44])).1.length + (dgx (nI i)).length) ≤ 700 by omega)
          refine mm_callV (As := [.int (nI i)]) (rest := []) ⟨hx, hb, hml, hown, hts⟩ hE hST hA (c_J19_appendX l Z hT_26 (by omega) (by omega) hx_27.1 hx_27.2.1 hx_27.2.2.1 (x := nI i)) (cwV 1 hts (lw_V q1971 q1437 q1438 q93 q1439) rfl rfl rfl (by decide +kernel) ⟨(by (try dsimp only); omega), (by (try dsimp only); omega)⟩) hM hS mm_cJ19 hb_31 rfl hl.1 (Nat.le_of_ble_eq_true rfl) dX36_tell_52 rfl ⟨(by (try dsimp only); first | omega | (simp only [List.length_singleton, List.length_nil]; omega)), (by (try dsimp only); first | omega | (simp only [List.length_singleton, List.length_nil]; omega))⟩ (fun _ _ _ _ _ _ h9 => h9.elim) (fun v_33 M_34 H locs hp_35 hM hS => ?_)
          obtain ⟨rfl, hp9⟩ := hp_35
          obtain ⟨ar_36, B_37⟩ := BF.of (s := (ap s' ([44]))) (ds := dgx (nI i)) hp9
          have hT_38 := B_37.1
          have hx_39 := B_37.tx hT_26 hx_27
          have B_40 := B_28.trans B_37
          have hc_41 := (B_37.Kt hT_26).1 _ _ _ hc_29 (by decide)
          have hc_42 := (B_37.Kt hT_26).2 _ _ _ _ hc_30
          have hb_43 := hT_38.1
          refine lv_bipush (v := 58) hx hb dX36_tell_55 (by decide) ?_
          have hrmw_44 : tb_mk ((ap (ap s' ([44])) (dgx (nI i))).1.length + 1) (ap (ap s' ([44])) (dgx (nI i))).2 + (ap (ap s' ([44])) (dgx (nI i))).2 ≤ (ap (ap (ap s' ([44])) (dgx (nI i))) ([58])).2 ∧ tb_ms ((ap (ap s' ([44])) (dgx (nI i))).1.length + 1) (ap (ap s' ([44])) (dgx (nI i))).2 + 2 * (ap (ap s' ([44])) (dgx (nI i))).2 ≤ 2 * (ap (ap (ap s' ([44])) (dgx (nI i))) ([58])).2 := rm_ap (ap (ap s' ([44])) (dgx (nI i))) ([58])
          have hlw_44 : (ap (ap (ap s' ([44])) (dgx (nI i))) ([58])).1.length = ((ap (ap s' ([44])) (dgx (nI i))).1.length + 1) := ap_len _ _
          have hcw_44 : (ap (ap (ap s' ([44])) (dgx (nI i))) ([58])).2 ≤ 1500 := ap_cap (by omega) (show ((ap (ap s' ([44])) (dgx (nI i))).1.length + 1) ≤ 700 by omega)
          rw [show (58 : Int32) = nI 58 from by decide]
          refine mm_callV (As := [.int (nI 58)]) (rest := []) ⟨hx, hb, hml, hown, hts⟩ hE hST hA (c_J19_append_3 l Z (k := 58) hT_38 (by omega) (by decide) (by omega)) (cwV 1 hts (lw_V q1966 q1627 q1628 q93 q1629) rfl rfl rfl (by decide +kernel) ⟨(by (try dsimp only); omega), (by (try dsimp only); omega)⟩) hM hS mm_cJ19 hb_43 rfl hl.1 (Nat.le_of_ble_eq_true rfl) dX36_tell_57 rfl ⟨(by (try dsimp only); first | omega | (simp only [List.length_singleton, List.length_nil]; omega)), (by (try dsimp only); first | omega | (simp only [List.length_singleton, List.length_nil]; omega))⟩ (fun _ _ _ _ _ _ h9 => h9.elim) (fun v_45 M_46 H locs hp_47 hM hS => ?_)
          obtain ⟨rfl, hp9⟩ := hp_47
          obtain ⟨ar_48, B_49⟩ := BF.of (s := (ap (ap s' ([44])) (dgx (nI i)))) (ds := [58]) hp9
          have hT_50 := B_49.1
          have hx_51 := B_49.tx hT_38 hx_39
          have B_52 := B_40.trans B_49
          have hc_53 := (B_49.Kt hT_38).1 _ _ _ hc_41 (by decide)
          have hc_54 := (B_49.Kt hT_38).2 _ _ _ _ hc_42
          have hb_55 := hT_50.1
          refine lv_pop hx hb dX36_tell_60 rfl ?_
          refine lv_aload_n hx hb dX36_tell_61 rfl (lv_at hl 2 rfl) ?_
          refine va_get (D := Z.1) (ci := 30) (v := .ref qa) (C := RX36) (T := TX36) (N := 1) hx hb hts in_X36 hown hE.1 (hM.at hc_53) 0 rfl mm_cX36 0 (by decide) (hts _ q1928) (fun _ h9 => h9) rfl dX36_tell_62 ?_
          refine lv_iload_n hx hb dX36_tell_65 rfl (lv_at hl 0 rfl) ?_
          refine mm_aald (k := i) hx hb hE hM 6 hc_54 rfl rfl hi (by decide) dX36_tell_66 ?_
          rw [hfx]
          refine lv_aload_n hx hb dX36_tell_67 rfl (lv_at hl 3 rfl) ?_
          have hlw_56 : (tt x false 0 true (ap (ap (ap s' ([44])) (dgx (nI i))) ([58]))).1.length ≤ 670 - (ap (ap (ap s' ([44])) (dgx (nI i))) ([58])).1.length := tt_len _ _ _ _ (by omega)
          have hcw_56 : (tt x false 0 true (ap (ap (ap s' ([44])) (dgx (nI i))) ([58]))).2 ≤ 1500 := tt_cap (by omega) (by omega)
          have hgw_56 : (ap (ap (ap s' ([44])) (dgx (nI i))) ([58])).1.length ≤ (tt x false 0 true (ap (ap (ap s' ([44])) (dgx (nI i))) ([58]))).1.length := (le_tt _ _ _ _ _).len
          have hdw_56 : (ap (ap (ap s' ([44])) (dgx (nI i))) ([58])).2 ≤ (tt x false 0 true (ap (ap (ap s' ([44])) (dgx (nI i))) ([58]))).2 := (le_tt _ _ _ _ _).2.1
          have hihw_56 := (ihN x hz4.1) (ap (ap (ap s' ([44])) (dgx (nI i))) ([58])) M_46 xa b ar_48 (by omega) (by omega) hT_50 hx_51 (cr.monoT (B_49.Kt hT_38) _ _ _ _ (cr.monoT (B_37.Kt hT_26) _ _ _ _ (cr.monoT (B_25.Kt hTB) _ _ _ _ (cr.monoT (hB.Kt hT9) _ _ _ _ hmx))))
          cases x with
          | natCast n9 =>
            have hcr9 := (cr.monoT (B_49.Kt hT_38) _ _ _ _ (cr.monoT (B_37.Kt hT_26) _ _ _ _ (cr.monoT (B_25.Kt hTB) _ _ _ _ (cr.monoT (hB.Kt hT9) _ _ _ _ hmx))))
            simp only [cr] at hcr9
            obtain ⟨a9, e9, hq9⟩ := hcr9
            cases e9
            refine mm_callU (As := [.ref b]) (rest := []) ⟨hx, hb, hml, hown, hts⟩ hE hST hA (hihw_56.1 _ rfl) (va_cwA (x := ⟨"RowenTongue$Value", "tell", "(Ljava/lang/StringBuilder;)V"⟩) (C := RX33) (owner := "RowenTongue$Value") 1 hts (lw_app (lw_in _ [1972, 1958, 1959, 1960, 106] (by decide +kernel) (by decide +kernel)) (lw_meth q1961)) rfl rfl rfl (hE.2.1 _ q1957 rfl) (by decide +kernel) ⟨(by (try dsimp only); omega), (by (try dsimp only); omega)⟩) hM hS mm_cX33 hq9 rfl hl.1 (Nat.le_of_ble_eq_true rfl) dX36_tell_68 rfl ⟨(by (try dsimp only); omega), (by (try dsimp only); omega)⟩ (fun _ _ _ _ _ _ h9 => h9.elim) (fun v_57 M_58 H locs hp_59 hM hS => ?_)
            obtain ⟨rfl, ar_60, B_61⟩ := hp_59
            have hT_62 := B_61.1
            have hx_63 := B_61.tx hT_50 hx_51
            have B_64 := B_52.trans B_61
            have hc_65 := (B_61.Kt hT_50).1 _ _ _ hc_53 (by decide)
            have hc_66 := (B_61.Kt hT_50).2 _ _ _ _ hc_54
            have hb_67 := hT_62.1
            refine lv_iconst (v := 0) hx hb dX36_tell_71 (by decide) ?_
            refine lv_istore_n hx hb dX36_tell_72 rfl hl (by decide) rfl (fun ls hl => ?_)
            replace hl : lv_has ls 4 [(2, .int 0), (3, .int (nI i)), (0, .ref va), (1, .ref b)] := hl
            obtain ⟨x_68, ex_68⟩ : ∃ z : Int32, z = (nI i) + 1 := ⟨_, rfl⟩
            refine lv_iinc (v := x_68) (lv' := [(3, .int x_68), (2, .int 0), (0, .ref va), (1, .ref b)]) hx hb dX36_tell_73 hl (k := 1) rfl (by rw [ex_68]; rfl) (by decide) rfl (fun ls hl => ?_)
            rw [show x_68 = nI (i + 1) from by rw [ex_68]; exact nI_1 i] at hl
            refine lv_goto (tgt := 11) hx hb dX36_tell_76 (by decide) ?_
            refine ih (10 - (i + 1)) (by omega) _ _ _ _ _ _ ⟨i + 1, false, r', (tt (.natCast n9) false 0 true (ap (ap (ap s' ([44])) (dgx (nI i))) ([58]))), ar_60, rfl, hi, lv_sub hl [0, 1, 2, 3] rfl, B_64, hx_63, hr4, hG, by omega, by omega, hz4.2, by (try dsimp only); omega, by (try dsimp only); omega⟩ hM hS
          | sub t9 e8 =>
            have hcr9 := (cr.monoT (B_49.Kt hT_38) _ _ _ _ (cr.monoT (B_37.Kt hT_26) _ _ _ _ (cr.monoT (B_25.Kt hTB) _ _ _ _ (cr.monoT (hB.Kt hT9) _ _ _ _ hmx))))
            obtain ⟨t8, rfl⟩ : ∃ t8, t9 = .natCast t8 := by cases t9 <;> first | exact ⟨_, rfl⟩ | (simp [cr] at hcr9; done)
            simp only [cr] at hcr9
            obtain ⟨a9, r8, j8, b9, sc9, e9, -, -, -, hq9, -⟩ := hcr9
            cases e9
            refine mm_callU (As := [.ref b]) (rest := []) ⟨hx, hb, hml, hown, hts⟩ hE hST hA (hihw_56.2.1 _ _ rfl) (va_cwA (x := ⟨"RowenTongue$Value", "tell", "(Ljava/lang/StringBuilder;)V"⟩) (C := RX34) (owner := "RowenTongue$Value") 1 hts (lw_app (lw_in _ [1972, 1958, 1983, 1979, 107] (by decide +kernel) (by decide +kernel)) (lw_meth q1980)) rfl rfl rfl (hE.2.1 _ q1957 rfl) (by decide +kernel) ⟨(by (try dsimp only); omega), (by (try dsimp only); omega)⟩) hM hS mm_cX34 hq9 rfl hl.1 (Nat.le_of_ble_eq_true rfl) dX36_tell_68 rfl ⟨(by (try dsimp only); omega), (by (try dsimp only); omega)⟩ (fun _ _ _ _ _ _ h9 => h9.elim) (fun v_57 M_58 H locs hp_59 hM hS => ?_)
            obtain ⟨rfl, ar_60, B_61⟩ := hp_59
            have hT_62 := B_61.1
            have hx_63 := B_61.tx hT_50 hx_51
            have B_64 := B_52.trans B_61
            have hc_65 := (B_61.Kt hT_50).1 _ _ _ hc_53 (by decide)
            have hc_66 := (B_61.Kt hT_50).2 _ _ _ _ hc_54
            have hb_67 := hT_62.1
            refine lv_iconst (v := 0) hx hb dX36_tell_71 (by decide) ?_
            refine lv_istore_n hx hb dX36_tell_72 rfl hl (by decide) rfl (fun ls hl => ?_)
            replace hl : lv_has ls 4 [(2, .int 0), (3, .int (nI i)), (0, .ref va), (1, .ref b)] := hl
            obtain ⟨x_68, ex_68⟩ : ∃ z : Int32, z = (nI i) + 1 := ⟨_, rfl⟩
            refine lv_iinc (v := x_68) (lv' := [(3, .int x_68), (2, .int 0), (0, .ref va), (1, .ref b)]) hx hb dX36_tell_73 hl (k := 1) rfl (by rw [ex_68]; rfl) (by decide) rfl (fun ls hl => ?_)
            rw [show x_68 = nI (i + 1) from by rw [ex_68]; exact nI_1 i] at hl
            refine lv_goto (tgt := 11) hx hb dX36_tell_76 (by decide) ?_
            refine ih (10 - (i + 1)) (by omega) _ _ _ _ _ _ ⟨i + 1, false, r', (tt (.sub (.natCast t8) e8) false 0 true (ap (ap (ap s' ([44])) (dgx (nI i))) ([58]))), ar_60, rfl, hi, lv_sub hl [0, 1, 2, 3] rfl, B_64, hx_63, hr4, hG, by omega, by omega, hz4.2, by (try dsimp only); omega, by (try dsimp only); omega⟩ hM hS
          | add x9 r9 =>
            obtain ⟨a9, q9, f9, e9, hq9, -, -⟩ := cr_rec.1 (cr.monoT (B_49.Kt hT_38) _ _ _ _ (cr.monoT (B_37.Kt hT_26) _ _ _ _ (cr.monoT (B_25.Kt hTB) _ _ _ _ (cr.monoT (hB.Kt hT9) _ _ _ _ hmx))))
            cases e9
            refine mm_callU (As := [.ref b]) (rest := []) ⟨hx, hb, hml, hown, hts⟩ hE hST hA (hihw_56.2.2.1 _ _ rfl) (va_cwA (x := ⟨"RowenTongue$Value", "tell", "(Ljava/lang/StringBuilder;)V"⟩) (C := RX36) (owner := "RowenTongue$Value") 1 hts (lw_app (lw_in _ [1972, 1958, 1963, 1964, 109] (by decide +kernel) (by decide +kernel)) (lw_meth q1965)) rfl rfl rfl (hE.2.1 _ q1957 rfl) (by decide +kernel) ⟨(by (try dsimp only); omega), (by (try dsimp only); omega)⟩) hM hS mm_cX36 hq9 rfl hl.1 (Nat.le_of_ble_eq_true rfl) dX36_tell_68 rfl ⟨(by (try dsimp only); omega), (by (try dsimp only); omega)⟩ (fun _ _ _ _ _ _ h9 => h9.elim) (fun v_57 M_58 H locs hp_59 hM hS => ?_)
            obtain ⟨rfl, ar_60, B_61⟩ := hp_59
            have hT_62 := B_61.1
            have hx_63 := B_61.tx hT_50 hx_51
            have B_64 := B_52.trans B_61
            have hc_65 := (B_61.Kt hT_50).1 _ _ _ hc_53 (by decide)
            have hc_66 := (B_61.Kt hT_50).2 _ _ _ _ hc_54
            have hb_67 := hT_62.1
            refine lv_iconst (v := 0) hx hb dX36_tell_71 (by decide) ?_
            refine lv_istore_n hx hb dX36_tell_72 rfl hl (by decide) rfl (fun ls hl => ?_)
            replace hl : lv_has ls 4 [(2, .int 0), (3, .int (nI i)), (0, .ref va), (1, .ref b)] := hl
            obtain ⟨x_68, ex_68⟩ : ∃ z : Int32, z = (nI i) + 1 := ⟨_, rfl⟩
            refine lv_iinc (v := x_68) (lv' := [(3, .int x_68), (2, .int 0), (0, .ref va), (1, .ref b)]) hx hb dX36_tell_73 hl (k := 1) rfl (by rw [ex_68]; rfl) (by decide) rfl (fun ls hl => ?_)
            rw [show x_68 = nI (i + 1) from by rw [ex_68]; exact nI_1 i] at hl
            refine lv_goto (tgt := 11) hx hb dX36_tell_76 (by decide) ?_
            refine ih (10 - (i + 1)) (by omega) _ _ _ _ _ _ ⟨i + 1, false, r', (tt (.add x9 r9) false 0 true (ap (ap (ap s' ([44])) (dgx (nI i))) ([58]))), ar_60, rfl, hi, lv_sub hl [0, 1, 2, 3] rfl, B_64, hx_63, hr4, hG, by omega, by omega, hz4.2, by (try dsimp only); omega, by (try dsimp only); omega⟩ hM hS
          | pow u9 k9 =>
            have hcr9 := (cr.monoT (B_49.Kt hT_38) _ _ _ _ (cr.monoT (B_37.Kt hT_26) _ _ _ _ (cr.monoT (B_25.Kt hTB) _ _ _ _ (cr.monoT (hB.Kt hT9) _ _ _ _ hmx))))
            simp only [cr] at hcr9
            obtain ⟨a9, b9, e9, hq9, -⟩ := hcr9
            cases e9
            refine mm_callU (As := [.ref b]) (rest := []) ⟨hx, hb, hml, hown, hts⟩ hE hST hA (hihw_56.2.2.2 _ _ rfl) (va_cwA (x := ⟨"RowenTongue$Value", "tell", "(Ljava/lang/StringBuilder;)V"⟩) (C := RX37) (owner := "RowenTongue$Value") 1 hts (lw_app (lw_in _ [1972, 1958, 1982, 1973, 110] (by decide +kernel) (by decide +kernel)) (lw_meth q1974)) rfl rfl rfl (hE.2.1 _ q1957 rfl) (by decide +kernel) ⟨(by (try dsimp only); omega), (by (try dsimp only); omega)⟩) hM hS mm_cX37 hq9 rfl hl.1 (Nat.le_of_ble_eq_true rfl) dX36_tell_68 rfl ⟨(by (try dsimp only); omega), (by (try dsimp only); omega)⟩ (fun _ _ _ _ _ _ h9 => h9.elim) (fun v_57 M_58 H locs hp_59 hM hS => ?_)
            obtain ⟨rfl, ar_60, B_61⟩ := hp_59
            have hT_62 := B_61.1
            have hx_63 := B_61.tx hT_50 hx_51
            have B_64 := B_52.trans B_61
            have hc_65 := (B_61.Kt hT_50).1 _ _ _ hc_53 (by decide)
            have hc_66 := (B_61.Kt hT_50).2 _ _ _ _ hc_54
            have hb_67 := hT_62.1
            refine lv_iconst (v := 0) hx hb dX36_tell_71 (by decide) ?_
            refine lv_istore_n hx hb dX36_tell_72 rfl hl (by decide) rfl (fun ls hl => ?_)
            replace hl : lv_has ls 4 [(2, .int 0), (3, .int (nI i)), (0, .ref va), (1, .ref b)] := hl
            obtain ⟨x_68, ex_68⟩ : ∃ z : Int32, z = (nI i) + 1 := ⟨_, rfl⟩
            refine lv_iinc (v := x_68) (lv' := [(3, .int x_68), (2, .int 0), (0, .ref va), (1, .ref b)]) hx hb dX36_tell_73 hl (k := 1) rfl (by rw [ex_68]; rfl) (by decide) rfl (fun ls hl => ?_)
            rw [show x_68 = nI (i + 1) from by rw [ex_68]; exact nI_1 i] at hl
            refine lv_goto (tgt := 11) hx hb dX36_tell_76 (by decide) ?_
            refine ih (10 - (i + 1)) (by omega) _ _ _ _ _ _ ⟨i + 1, false, r', (tt (.pow u9 k9) false 0 true (ap (ap (ap s' ([44])) (dgx (nI i))) ([58]))), ar_60, rfl, hi, lv_sub hl [0, 1, 2, 3] rfl, B_64, hx_63, hr4, hG, by omega, by omega, hz4.2, by (try dsimp only); omega, by (try dsimp only); omega⟩ hM hS
          | _ => exact absurd (cr.monoT (B_49.Kt hT_38) _ _ _ _ (cr.monoT (B_37.Kt hT_26) _ _ _ _ (cr.monoT (B_25.Kt hTB) _ _ _ _ (cr.monoT (hB.Kt hT9) _ _ _ _ hmx)))) (by simp [cr])
        · skip
          replace hG : tt r' true (i + 1) false (tt x false 0 true (ap (ap (ap s' []) (dgx (nI i))) [58])) = G := hG
          have hmA : (ap s' []).2 ≤ (ap (ap s' []) (dgx (nI i))).2 := (le_ap _ _).2.1
          have hmB : (ap (ap s' []) (dgx (nI i))).2 ≤ (ap (ap (ap s' []) (dgx (nI i))) [58]).2 := (le_ap _ _).2.1
          have hmC := (le_tt x false 0 true (ap (ap (ap s' []) (dgx (nI i))) [58])).2.1
          have hmD : (tt x false 0 true (ap (ap (ap s' []) (dgx (nI i))) [58])).2 ≤ G.2 := by rw [← hG]; exact (le_tt _ _ _ _ _).2.1
          have hmE := (le_ap s' []).2.1
          refine lv_aload_n hx hb dX36_tell_36 rfl (lv_at hl 3 rfl) ?_
          refine lv_iload_n hx hb dX36_tell_37 rfl (lv_at hl 1 rfl) ?_
          refine lv_if_eq (tgt := 46) hx hb dX36_tell_38 (by decide) (fun h9 => absurd h9 (by decide)) (fun _ => ?_)
          refine va_ldcS hx hb hown (hE.2.2.2.2.2.1 _ (List.mem_of_getElem? (i := 28) rfl)) dX36_tell_41 ?_
          refine lv_goto (tgt := 48) hx hb dX36_tell_43 (by decide) ?_
          have hrmw_20 : tb_mk (s'.1.length + 0) s'.2 + s'.2 ≤ (ap s' ([])).2 ∧ tb_ms (s'.1.length + 0) s'.2 + 2 * s'.2 ≤ 2 * (ap s' ([])).2 := rm_ap s' ([])
          have hlw_20 : (ap s' ([])).1.length = (s'.1.length + 0) := ap_len _ _
          have hcw_20 : (ap s' ([])).2 ≤ 1500 := ap_cap (by omega) (show (s'.1.length + 0) ≤ 700 by omega)
          have hrsw_20 := rm_ap s' ([] : List Nat)
          refine mm_callV (As := [.ref (Z.2.2.2 0)]) (rest := []) ⟨hx, hb, hml, hown, hts⟩ hE hST hA (c_J19_append l Z hTB (by omega) hS0 ns0) (cwV 1 hts (lw_V q1970 q1333 q1334 q93 q1335) rfl rfl rfl (by decide +kernel) ⟨(by (try dsimp only); omega), (by (try dsimp only); omega)⟩) hM hS mm_cJ19 hb_14 rfl hl.1 (Nat.le_of_ble_eq_true rfl) dX36_tell_48 rfl ⟨(by (try dsimp only); first | omega | (simp only [List.length_singleton, List.length_nil]; omega)), (by (try dsimp only); first | omega | (simp only [List.length_singleton, List.length_nil]; omega))⟩ (fun _ _ _ _ _ _ h9 => h9.elim) (fun v_21 M_22 H locs hp_23 hM hS => ?_)
          obtain ⟨rfl, hp9⟩ := hp_23
          obtain ⟨ar_24, B_25⟩ := BF.of (s := s') (ds := []) hp9
          have hT_26 := B_25.1
          have hx_27 := B_25.tx hTB htx
          have B_28 := hB.trans B_25
          have hc_29 := (B_25.Kt hTB).1 _ _ _ hva3 (by decide)
          have hc_30 := (B_25.Kt hTB).2 _ _ _ _ hqa3
          have hb_31 := hT_26.1
          refine lv_iload_n hx hb dX36_tell_51 rfl (lv_at hl 0 rfl) ?_
          have hrmw_32 : tb_mk ((ap s' ([])).1.length + (dgx (nI i)).length) (ap s' ([])).2 + (ap s' ([])).2 ≤ (ap (ap s' ([])) (dgx (nI i))).2 ∧ tb_ms ((ap s' ([])).1.length + (dgx (nI i)).length) (ap s' ([])).2 + 2 * (ap s' ([])).2 ≤ 2 * (ap (ap s' ([])) (dgx (nI i))).2 := rm_ap (ap s' ([])) (dgx (nI i))
          have hlw_32 : (ap (ap s' ([])) (dgx (nI i))).1.length = ((ap s' ([])).1.length + (dgx (nI i)).length) := ap_len _ _
          have hcw_32 : (ap (ap s' ([])) (dgx (nI i))).2 ≤ 1500 := ap_cap (by omega) (show ((ap s' ([])).1.length + (dgx (nI i)).length) ≤ 700 by omega)
          refine mm_callV (As := [.int (nI i)]) (rest := []) ⟨hx, hb, hml, hown, hts⟩ hE hST hA (c_J19_appendX l Z hT_26 (by omega) (by omega) hx_27.1 hx_27.2.1 hx_27.2.2.1 (x := nI i)) (cwV 1 hts (lw_V q1971 q1437 q1438 q93 q1439) rfl rfl rfl (by decide +kernel) ⟨(by (try dsimp only); omega), (by (try dsimp only); omega)⟩) hM hS mm_cJ19 hb_31 rfl hl.1 (Nat.le_of_ble_eq_true rfl) dX36_tell_52 rfl ⟨(by (try dsimp only); first | omega | (simp only [List.length_singleton, List.length_nil]; omega)), (by (try dsimp only); first | omega | (simp only [List.length_singleton, List.length_nil]; omega))⟩ (fun _ _ _ _ _ _ h9 => h9.elim) (fun v_33 M_34 H locs hp_35 hM hS => ?_)
          obtain ⟨rfl, hp9⟩ := hp_35
          obtain ⟨ar_36, B_37⟩ := BF.of (s := (ap s' ([]))) (ds := dgx (nI i)) hp9
          have hT_38 := B_37.1
          have hx_39 := B_37.tx hT_26 hx_27
          have B_40 := B_28.trans B_37
          have hc_41 := (B_37.Kt hT_26).1 _ _ _ hc_29 (by decide)
          have hc_42 := (B_37.Kt hT_26).2 _ _ _ _ hc_30
          have hb_43 := hT_38.1
          refine lv_bipush (v := 58) hx hb dX36_tell_55 (by decide) ?_
          have hrmw_44 : tb_mk ((ap (ap s' ([])) (dgx (nI i))).1.length + 1) (ap (ap s' ([])) (dgx (nI i))).2 + (ap (ap s' ([])) (dgx (nI i))).2 ≤ (ap (ap (ap s' ([])) (dgx (nI i))) ([58])).2 ∧ tb_ms ((ap (ap s' ([])) (dgx (nI i))).1.length + 1) (ap (ap s' ([])) (dgx (nI i))).2 + 2 * (ap (ap s' ([])) (dgx (nI i))).2 ≤ 2 * (ap (ap (ap s' ([])) (dgx (nI i))) ([58])).2 := rm_ap (ap (ap s' ([])) (dgx (nI i))) ([58])
          have hlw_44 : (ap (ap (ap s' ([])) (dgx (nI i))) ([58])).1.length = ((ap (ap s' ([])) (dgx (nI i))).1.length + 1) := ap_len _ _
          have hcw_44 : (ap (ap (ap s' ([])) (dgx (nI i))) ([58])).2 ≤ 1500 := ap_cap (by omega) (show ((ap (ap s' ([])) (dgx (nI i))).1.length + 1) ≤ 700 by omega)
          rw [show (58 : Int32) = nI 58 from by decide]
          refine mm_callV (As := [.int (nI 58)]) (rest := []) ⟨hx, hb, hml, hown, hts⟩ hE hST hA (c_J19_append_3 l Z (k := 58) hT_38 (by omega) (by decide) (by omega)) (cwV 1 hts (lw_V q1966 q1627 q1628 q93 q1629) rfl rfl rfl (by decide +kernel) ⟨(by (try dsimp only); omega), (by (try dsimp only); omega)⟩) hM hS mm_cJ19 hb_43 rfl hl.1 (Nat.le_of_ble_eq_true rfl) dX36_tell_57 rfl ⟨(by (try dsimp only); first | omega | (simp only [List.length_singleton, List.length_nil]; omega)), (by (try dsimp only); first | omega | (simp only [List.length_singleton, List.length_nil]; omega))⟩ (fun _ _ _ _ _ _ h9 => h9.elim) (fun v_45 M_46 H locs hp_47 hM hS => ?_)
          obtain ⟨rfl, hp9⟩ := hp_47
          obtain ⟨ar_48, B_49⟩ := BF.of (s := (ap (ap s' ([])) (dgx (nI i)))) (ds := [58]) hp9
          have hT_50 := B_49.1
          have hx_51 := B_49.tx hT_38 hx_39
          have B_52 := B_40.trans B_49
          have hc_53 := (B_49.Kt hT_38).1 _ _ _ hc_41 (by decide)
          have hc_54 := (B_49.Kt hT_38).2 _ _ _ _ hc_42
          have hb_55 := hT_50.1
          refine lv_pop hx hb dX36_tell_60 rfl ?_
          refine lv_aload_n hx hb dX36_tell_61 rfl (lv_at hl 2 rfl) ?_
          refine va_get (D := Z.1) (ci := 30) (v := .ref qa) (C := RX36) (T := TX36) (N := 1) hx hb hts in_X36 hown hE.1 (hM.at hc_53) 0 rfl mm_cX36 0 (by decide) (hts _ q1928) (fun _ h9 => h9) rfl dX36_tell_62 ?_
          refine lv_iload_n hx hb dX36_tell_65 rfl (lv_at hl 0 rfl) ?_
          refine mm_aald (k := i) hx hb hE hM 6 hc_54 rfl rfl hi (by decide) dX36_tell_66 ?_
          rw [hfx]
          refine lv_aload_n hx hb dX36_tell_67 rfl (lv_at hl 3 rfl) ?_
          have hlw_56 : (tt x false 0 true (ap (ap (ap s' ([])) (dgx (nI i))) ([58]))).1.length ≤ 670 - (ap (ap (ap s' ([])) (dgx (nI i))) ([58])).1.length := tt_len _ _ _ _ (by omega)
          have hcw_56 : (tt x false 0 true (ap (ap (ap s' ([])) (dgx (nI i))) ([58]))).2 ≤ 1500 := tt_cap (by omega) (by omega)
          have hgw_56 : (ap (ap (ap s' ([])) (dgx (nI i))) ([58])).1.length ≤ (tt x false 0 true (ap (ap (ap s' ([])) (dgx (nI i))) ([58]))).1.length := (le_tt _ _ _ _ _).len
          have hdw_56 : (ap (ap (ap s' ([])) (dgx (nI i))) ([58])).2 ≤ (tt x false 0 true (ap (ap (ap s' ([])) (dgx (nI i))) ([58]))).2 := (le_tt _ _ _ _ _).2.1
          have hihw_56 := (ihN x hz4.1) (ap (ap (ap s' ([])) (dgx (nI i))) ([58])) M_46 xa b ar_48 (by omega) (by omega) hT_50 hx_51 (cr.monoT (B_49.Kt hT_38) _ _ _ _ (cr.monoT (B_37.Kt hT_26) _ _ _ _ (cr.monoT (B_25.Kt hTB) _ _ _ _ (cr.monoT (hB.Kt hT9) _ _ _ _ hmx))))
          cases x with
          | natCast n9 =>
            have hcr9 := (cr.monoT (B_49.Kt hT_38) _ _ _ _ (cr.monoT (B_37.Kt hT_26) _ _ _ _ (cr.monoT (B_25.Kt hTB) _ _ _ _ (cr.monoT (hB.Kt hT9) _ _ _ _ hmx))))
            simp only [cr] at hcr9
            obtain ⟨a9, e9, hq9⟩ := hcr9
            cases e9
            refine mm_callU (As := [.ref b]) (rest := []) ⟨hx, hb, hml, hown, hts⟩ hE hST hA (hihw_56.1 _ rfl) (va_cwA (x := ⟨"RowenTongue$Value", "tell", "(Ljava/lang/StringBuilder;)V"⟩) (C := RX33) (owner := "RowenTongue$Value") 1 hts (lw_app (lw_in _ [1972, 1958, 1959, 1960, 106] (by decide +kernel) (by decide +kernel)) (lw_meth q1961)) rfl rfl rfl (hE.2.1 _ q1957 rfl) (by decide +kernel) ⟨(by (try dsimp only); omega), (by (try dsimp only); omega)⟩) hM hS mm_cX33 hq9 rfl hl.1 (Nat.le_of_ble_eq_true rfl) dX36_tell_68 rfl ⟨(by (try dsimp only); omega), (by (try dsimp only); omega)⟩ (fun _ _ _ _ _ _ h9 => h9.elim) (fun v_57 M_58 H locs hp_59 hM hS => ?_)
            obtain ⟨rfl, ar_60, B_61⟩ := hp_59
            have hT_62 := B_61.1
            have hx_63 := B_61.tx hT_50 hx_51
            have B_64 := B_52.trans B_61
            have hc_65 := (B_61.Kt hT_50).1 _ _ _ hc_53 (by decide)
            have hc_66 := (B_61.Kt hT_50).2 _ _ _ _ hc_54
            have hb_67 := hT_62.1
            refine lv_iconst (v := 0) hx hb dX36_tell_71 (by decide) ?_
            refine lv_istore_n hx hb dX36_tell_72 rfl hl (by decide) rfl (fun ls hl => ?_)
            replace hl : lv_has ls 4 [(2, .int 0), (3, .int (nI i)), (0, .ref va), (1, .ref b)] := hl
            obtain ⟨x_68, ex_68⟩ : ∃ z : Int32, z = (nI i) + 1 := ⟨_, rfl⟩
            refine lv_iinc (v := x_68) (lv' := [(3, .int x_68), (2, .int 0), (0, .ref va), (1, .ref b)]) hx hb dX36_tell_73 hl (k := 1) rfl (by rw [ex_68]; rfl) (by decide) rfl (fun ls hl => ?_)
            rw [show x_68 = nI (i + 1) from by rw [ex_68]; exact nI_1 i] at hl
            refine lv_goto (tgt := 11) hx hb dX36_tell_76 (by decide) ?_
            refine ih (10 - (i + 1)) (by omega) _ _ _ _ _ _ ⟨i + 1, false, r', (tt (.natCast n9) false 0 true (ap (ap (ap s' ([])) (dgx (nI i))) ([58]))), ar_60, rfl, hi, lv_sub hl [0, 1, 2, 3] rfl, B_64, hx_63, hr4, hG, by omega, by omega, hz4.2, by (try dsimp only); omega, by (try dsimp only); omega⟩ hM hS
          | sub t9 e8 =>
            have hcr9 := (cr.monoT (B_49.Kt hT_38) _ _ _ _ (cr.monoT (B_37.Kt hT_26) _ _ _ _ (cr.monoT (B_25.Kt hTB) _ _ _ _ (cr.monoT (hB.Kt hT9) _ _ _ _ hmx))))
            obtain ⟨t8, rfl⟩ : ∃ t8, t9 = .natCast t8 := by cases t9 <;> first | exact ⟨_, rfl⟩ | (simp [cr] at hcr9; done)
            simp only [cr] at hcr9
            obtain ⟨a9, r8, j8, b9, sc9, e9, -, -, -, hq9, -⟩ := hcr9
            cases e9
            refine mm_callU (As := [.ref b]) (rest := []) ⟨hx, hb, hml, hown, hts⟩ hE hST hA (hihw_56.2.1 _ _ rfl) (va_cwA (x := ⟨"RowenTongue$Value", "tell", "(Ljava/lang/StringBuilder;)V"⟩) (C := RX34) (owner := "RowenTongue$Value") 1 hts (lw_app (lw_in _ [1972, 1958, 1983, 1979, 107] (by decide +kernel) (by decide +kernel)) (lw_meth q1980)) rfl rfl rfl (hE.2.1 _ q1957 rfl) (by decide +kernel) ⟨(by (try dsimp only); omega), (by (try dsimp only); omega)⟩) hM hS mm_cX34 hq9 rfl hl.1 (Nat.le_of_ble_eq_true rfl) dX36_tell_68 rfl ⟨(by (try dsimp only); omega), (by (try dsimp only); omega)⟩ (fun _ _ _ _ _ _ h9 => h9.elim) (fun v_57 M_58 H locs hp_59 hM hS => ?_)
            obtain ⟨rfl, ar_60, B_61⟩ := hp_59
            have hT_62 := B_61.1
            have hx_63 := B_61.tx hT_50 hx_51
            have B_64 := B_52.trans B_61
            have hc_65 := (B_61.Kt hT_50).1 _ _ _ hc_53 (by decide)
            have hc_66 := (B_61.Kt hT_50).2 _ _ _ _ hc_54
            have hb_67 := hT_62.1
            refine lv_iconst (v := 0) hx hb dX36_tell_71 (by decide) ?_
            refine lv_istore_n hx hb dX36_tell_72 rfl hl (by decide) rfl (fun ls hl => ?_)
            replace hl : lv_has ls 4 [(2, .int 0), (3, .int (nI i)), (0, .ref va), (1, .ref b)] := hl
            obtain ⟨x_68, ex_68⟩ : ∃ z : Int32, z = (nI i) + 1 := ⟨_, rfl⟩
            refine lv_iinc (v := x_68) (lv' := [(3, .int x_68), (2, .int 0), (0, .ref va), (1, .ref b)]) hx hb dX36_tell_73 hl (k := 1) rfl (by rw [ex_68]; rfl) (by decide) rfl (fun ls hl => ?_)
            rw [show x_68 = nI (i + 1) from by rw [ex_68]; exact nI_1 i] at hl
            refine lv_goto (tgt := 11) hx hb dX36_tell_76 (by decide) ?_
            refine ih (10 - (i + 1)) (by omega) _ _ _ _ _ _ ⟨i + 1, false, r', (tt (.sub (.natCast t8) e8) false 0 true (ap (ap (ap s' ([])) (dgx (nI i))) ([58]))), ar_60, rfl, hi, lv_sub hl [0, 1, 2, 3] rfl, B_64, hx_63, hr4, hG, by omega, by omega, hz4.2, by (try dsimp only); omega, by (try dsimp only); omega⟩ hM hS
          | add x9 r9 =>
            obtain ⟨a9, q9, f9, e9, hq9, -, -⟩ := cr_rec.1 (cr.monoT (B_49.Kt hT_38) _ _ _ _ (cr.monoT (B_37.Kt hT_26) _ _ _ _ (cr.monoT (B_25.Kt hTB) _ _ _ _ (cr.monoT (hB.Kt hT9) _ _ _ _ hmx))))
            cases e9
            refine mm_callU (As := [.ref b]) (rest := []) ⟨hx, hb, hml, hown, hts⟩ hE hST hA (hihw_56.2.2.1 _ _ rfl) (va_cwA (x := ⟨"RowenTongue$Value", "tell", "(Ljava/lang/StringBuilder;)V"⟩) (C := RX36) (owner := "RowenTongue$Value") 1 hts (lw_app (lw_in _ [1972, 1958, 1963, 1964, 109] (by decide +kernel) (by decide +kernel)) (lw_meth q1965)) rfl rfl rfl (hE.2.1 _ q1957 rfl) (by decide +kernel) ⟨(by (try dsimp only); omega), (by (try dsimp only); omega)⟩) hM hS mm_cX36 hq9 rfl hl.1 (Nat.le_of_ble_eq_true rfl) dX36_tell_68 rfl ⟨(by (try dsimp only); omega), (by (try dsimp only); omega)⟩ (fun _ _ _ _ _ _ h9 => h9.elim) (fun v_57 M_58 H locs hp_59 hM hS => ?_)
            obtain ⟨rfl, ar_60, B_61⟩ := hp_59
            have hT_62 := B_61.1
            have hx_63 := B_61.tx hT_50 hx_51
            have B_64 := B_52.trans B_61
            have hc_65 := (B_61.Kt hT_50).1 _ _ _ hc_53 (by decide)
            have hc_66 := (B_61.Kt hT_50).2 _ _ _ _ hc_54
            have hb_67 := hT_62.1
            refine lv_iconst (v := 0) hx hb dX36_tell_71 (by decide) ?_
            refine lv_istore_n hx hb dX36_tell_72 rfl hl (by decide) rfl (fun ls hl => ?_)
            replace hl : lv_has ls 4 [(2, .int 0), (3, .int (nI i)), (0, .ref va), (1, .ref b)] := hl
            obtain ⟨x_68, ex_68⟩ : ∃ z : Int32, z = (nI i) + 1 := ⟨_, rfl⟩
            refine lv_iinc (v := x_68) (lv' := [(3, .int x_68), (2, .int 0), (0, .ref va), (1, .ref b)]) hx hb dX36_tell_73 hl (k := 1) rfl (by rw [ex_68]; rfl) (by decide) rfl (fun ls hl => ?_)
            rw [show x_68 = nI (i + 1) from by rw [ex_68]; exact nI_1 i] at hl
            refine lv_goto (tgt := 11) hx hb dX36_tell_76 (by decide) ?_
            refine ih (10 - (i + 1)) (by omega) _ _ _ _ _ _ ⟨i + 1, false, r', (tt (.add x9 r9) false 0 true (ap (ap (ap s' ([])) (dgx (nI i))) ([58]))), ar_60, rfl, hi, lv_sub hl [0, 1, 2, 3] rfl, B_64, hx_63, hr4, hG, by omega, by omega, hz4.2, by (try dsimp only); omega, by (try dsimp only); omega⟩ hM hS
          | pow u9 k9 =>
            have hcr9 := (cr.monoT (B_49.Kt hT_38) _ _ _ _ (cr.monoT (B_37.Kt hT_26) _ _ _ _ (cr.monoT (B_25.Kt hTB) _ _ _ _ (cr.monoT (hB.Kt hT9) _ _ _ _ hmx))))
            simp only [cr] at hcr9
            obtain ⟨a9, b9, e9, hq9, -⟩ := hcr9
            cases e9
            refine mm_callU (As := [.ref b]) (rest := []) ⟨hx, hb, hml, hown, hts⟩ hE hST hA (hihw_56.2.2.2 _ _ rfl) (va_cwA (x := ⟨"RowenTongue$Value", "tell", "(Ljava/lang/StringBuilder;)V"⟩) (C := RX37) (owner := "RowenTongue$Value") 1 hts (lw_app (lw_in _ [1972, 1958, 1982, 1973, 110] (by decide +kernel) (by decide +kernel)) (lw_meth q1974)) rfl rfl rfl (hE.2.1 _ q1957 rfl) (by decide +kernel) ⟨(by (try dsimp only); omega), (by (try dsimp only); omega)⟩) hM hS mm_cX37 hq9 rfl hl.1 (Nat.le_of_ble_eq_true rfl) dX36_tell_68 rfl ⟨(by (try dsimp only); omega), (by (try dsimp only); omega)⟩ (fun _ _ _ _ _ _ h9 => h9.elim) (fun v_57 M_58 H locs hp_59 hM hS => ?_)
            obtain ⟨rfl, ar_60, B_61⟩ := hp_59
            have hT_62 := B_61.1
            have hx_63 := B_61.tx hT_50 hx_51
            have B_64 := B_52.trans B_61
            have hc_65 := (B_61.Kt hT_50).1 _ _ _ hc_53 (by decide)
            have hc_66 := (B_61.Kt hT_50).2 _ _ _ _ hc_54
            have hb_67 := hT_62.1
            refine lv_iconst (v := 0) hx hb dX36_tell_71 (by decide) ?_
            refine lv_istore_n hx hb dX36_tell_72 rfl hl (by decide) rfl (fun ls hl => ?_)
            replace hl : lv_has ls 4 [(2, .int 0), (3, .int (nI i)), (0, .ref va), (1, .ref b)] := hl
            obtain ⟨x_68, ex_68⟩ : ∃ z : Int32, z = (nI i) + 1 := ⟨_, rfl⟩
            refine lv_iinc (v := x_68) (lv' := [(3, .int x_68), (2, .int 0), (0, .ref va), (1, .ref b)]) hx hb dX36_tell_73 hl (k := 1) rfl (by rw [ex_68]; rfl) (by decide) rfl (fun ls hl => ?_)
            rw [show x_68 = nI (i + 1) from by rw [ex_68]; exact nI_1 i] at hl
            refine lv_goto (tgt := 11) hx hb dX36_tell_76 (by decide) ?_
            refine ih (10 - (i + 1)) (by omega) _ _ _ _ _ _ ⟨i + 1, false, r', (tt (.pow u9 k9) false 0 true (ap (ap (ap s' ([])) (dgx (nI i))) ([58]))), ar_60, rfl, hi, lv_sub hl [0, 1, 2, 3] rfl, B_64, hx_63, hr4, hG, by omega, by omega, hz4.2, by (try dsimp only); omega, by (try dsimp only); omega⟩ hM hS
          | _ => exact absurd (cr.monoT (B_49.Kt hT_38) _ _ _ _ (cr.monoT (B_37.Kt hT_26) _ _ _ _ (cr.monoT (B_25.Kt hTB) _ _ _ _ (cr.monoT (hB.Kt hT9) _ _ _ _ hmx)))) (by simp [cr])
theorem c_tell (l : Launch) (Z : mm_G) (ad : List Nat) (T : List pt_R) (N : Nat) : ∀ v : ev, SizeOf.sizeOf v < N → tellC l Z ad T v := by
  induction N with
  | zero => intro v h; omega
  | succ N ih =>
    intro v h s M va b ar h1 h2 h3 h4 h5
    refine ⟨fun n e => ?_, fun k e9 e => ?_, fun x r e => ?_, fun u k e => ?_⟩
    · subst e
      simp only [cr] at h5
      obtain ⟨a, e, h6⟩ := h5
      cases e
      exact c_X33_tell l Z h1 h2 h3 h4 h6
    · subst e
      exact c_X34_tell l Z h1 h2 h3 h4
    · subst e
      exact c_X36_tell l Z h1 h2 h3 h4 h5 (fun v hv => ih v (by omega))
    · subst e
      exact c_X37_tell l Z h1 h2 h3 h4 h5 (ih u (by simp at h; omega))
