/-! ===== the law's wrappers: leaf, named, made, match ===== -/
set_option maxRecDepth 100000
section MLA
variable {p : Program} {l : Launch} {e : Env} {R : Room} {s : State} {m : MethodId} {args : Array Value} {below : List Frame} {meth : Method} {c : Code} {H : Heap} {locs : List Loc} {cells slots : Nat} {Q : State → Prop}
variable {cc : ByteArray} {pc : Nat} {ls : Array Slot} {rest : List Value} {A : Nat → Prop} {a : Nat} {M : mm_M} {H0 : Heap} {Z : mm_G}
theorem mm_lastK (hexec : p.tables.exec = Jvm.exec) (hb : c.code = cc) (hE : mm_E Z s) (hM : mm_P Z.1 mm_cl A M H) (hS : va_S A H0 H locs) {n : Nat} {f : Nat → Int64} (ha : M a = some (.inl (Z.2.1 2, n, .inr (.inl f)))) {i : Int32} {x : Int64} {k : Nat} (hi : i = nI k) (hk : k < n) (hn : n < 2 ^ 31) (hdg : decode cc pc = .ok (.lastore, 1))
    (kk : ∀ (H1 : Heap) (locs1 : List Loc), mm_P Z.1 mm_cl A (mm_U M a (.inl (Z.2.1 2, n, .inr (.inl (vp_updL f k x))))) H1 → va_S A H0 H1 locs1 → W p l e R s m args below meth c H1 locs1 cells slots Q (F0 m (pc + 1) ls rest)) : W p l e R s m args below meth c H locs cells slots Q (F0 m pc ls (.long x :: .int i :: .ref a :: rest)) := by
  obtain ⟨h1, h2⟩ := mm_ix hi hk hn
  obtain ⟨ws, hP, hD, hI⟩ := hM
  obtain ⟨q0, h0⟩ := (hI _ _).1 ha
  refine va_last hexec hb hE.1 hP hD hS q0 2 h0 rfl h1 hdg (fun H1 locs1 p1 d1 s1 => ?_)
  rw [h2] at p1 d1
  exact kk H1 locs1 ⟨_, p1, d1, mm_idx_set hD h0 hI _⟩ s1
end MLA
theorem mm_neL {M : mm_M} {a b : Nat} {c c' : ClassId} {n n' : Nat} {f : Nat → Int64} {g : (Nat → UInt32) ⊕ (Nat → UInt64) ⊕ (Nat → Option Nat)} (h1 : M a = some (.inl (c, n, .inr (.inl f)))) (h2 : M b = some (.inl (c', n', .inr (.inr g)))) : a ≠ b := fun h => by
  rw [h, h2] at h1
  have h3 := (Prod.mk.inj (Prod.mk.inj (Sum.inl.inj (Option.some.inj h1))).2).2
  cases Sum.inr.inj h3
theorem mm_neI {M : mm_M} {a b : Nat} {c c' : ClassId} {n n' : Nat} {f : Nat → Int32} {g : (Nat → Int64) ⊕ (Nat → UInt32) ⊕ (Nat → UInt64) ⊕ (Nat → Option Nat)} (h1 : M a = some (.inl (c, n, .inl f))) (h2 : M b = some (.inl (c', n', .inr g))) : a ≠ b := fun h => by
  rw [h, h2] at h1
  have h3 := (Prod.mk.inj (Prod.mk.inj (Sum.inl.inj (Option.some.inj h1))).2).2
  cases h3
/-- the law's long[1] -/
abbrev lo_E (Z : mm_G) (f : Nat → Int64) : va_E := .inl (Z.2.1 2, 1, .inr (.inl f))
theorem co_T.lo {Z : mm_G} {M : mm_M} {o tl ar cap ob : Nat} {er st : Int32} {rs : Option Nat} {ad : List Nat} {F : Nat → Option Nat} {T : List pt_R} {f : Nat → Int64} {e : va_E} (h : co_T Z M o er st rs tl ar cap ad F T) (hob : M ob = some (lo_E Z f)) : co_T Z (mm_U M ob e) o er st rs tl ar cap ad F T := by
  obtain ⟨h1, ⟨md, g, h2, h3, h4⟩, h5, h6⟩ := h
  have k1 : o ≠ ob := fun h9 => by rw [h9, hob] at h1; cases h1
  have k2 : tl ≠ ob := fun h9 => by rw [h9, hob] at h2; cases h2
  have k3 : ar ≠ ob := (mm_neL hob h3).symm
  exact ⟨(mm_U_ne k1).trans h1, ⟨md, g, (mm_U_ne k2).trans h2, (mm_U_ne k3).trans h3, h4⟩, h5, h6.ext (fun q hq => mm_U_ne (by rcases hq with ⟨_, _, _, _, hq⟩ | ⟨_, _, hq⟩; exact fun h9 => (mm_neA hob hq) h9.symm; exact (mm_neL hob hq).symm))⟩

set_option maxHeartbeats 4000000 in
set_option maxRecDepth 100000 in
theorem c_X0_leaf (l : Launch) (Z : mm_G) {M : mm_M} (htr : l.stackTraces = false) {o tl ar cap : Nat} {er st : Int32} {rs : Option Nat} {ad : List Nat} {F : Nat → Option Nat} {T : List pt_R} (hC9 : co_T Z M o er st rs tl ar cap ad F T) {kd i : Int32} {ob : Nat} {f0 : Nat → Int64} (hob9 : M ob = some (lo_E Z f0)) : mm_C l Z yX0_leaf (wsW_ yX0_leaf cX0_leaf 5 (some .int) [((0 : Nat), (10 : Nat), (13 : Nat), (13 : Nat)), ((0 : Nat), (10 : Nat), (17 : Nat), (15 : Nat))]) { frames := 11, cells := 6, slots := 240, locals := 380 } [.ref o, .int kd, .int i, .ref ob] M (fun v M' => (pl_can kd i = true ∧ ∃ ps : List Nat, pt_p T [] ps ∧ (T.length < 120 ∧ pt_w T ps ≤ 30) ∧ v = some (.int 0) ∧ (∃ f : Nat → Int64, M' ob = some (lo_E Z f) ∧ f 0 = (nI T.length).toInt64) ∧ (∃ a ar' cap' : Nat, co_T Z M' o er st rs tl ar' cap' (ad ++ [a]) F (T ++ [(kd, (pl_wh kd i), 0, ps, pt_w T ps)])) ∧ (∀ q : Nat, M q ≠ none → q ≠ tl → q ≠ ar → q ≠ ob → M' q = M q)) ∨ (∃ code : Int32, v = some (.int code) ∧ ((pl_can kd i = false ∧ code = 1) ∨ (pl_can kd i = true ∧ (∀ ps, ¬ pt_p T [] ps) ∧ code = 2) ∨ (pl_can kd i = true ∧ ∃ ps, pt_p T [] ps ∧ ¬ (T.length < 120 ∧ pt_w T ps ≤ 30) ∧ code = 2)) ∧ mm_Ext M M')) mm_nx := by
  refine mm_ofWH (cc := cX0_leaf) (maxL := 5) (ret := (some .int)) (hh := [((0 : Nat), (10 : Nat), (13 : Nat), (13 : Nat)), ((0 : Nat), (10 : Nat), (17 : Nat), (15 : Nat))]) (by decide) rfl (Nat.le_of_ble_eq_true rfl) ?_
  intro p e s m below meth c A ls hx hb hr hlk hml hown hmn hts htab hE hST hA hM hS hl
  replace hl : lv_has ls 5 [(0, .ref o), (1, .int kd), (2, .int i), (3, .ref ob)] := hl
  have hC8 := hC9
  obtain ⟨ho9, -, -, -⟩ := hC9
  obtain ⟨md9, f9, hal9, har9, -⟩ := hC8.2.1
  have n1 : ob ≠ o := mm_neA hob9 ho9
  have n2 : ob ≠ tl := mm_neA hob9 hal9
  have n3 : ob ≠ ar := mm_neL hob9 har9
  refine lv_aload_n hx hb dX0_leaf_0 rfl (lv_at hl 3 rfl) ?_
  refine lv_iconst (v := 0) hx hb dX0_leaf_1 (by decide) ?_
  refine lv_aload_n hx hb dX0_leaf_2 rfl (lv_at hl 0 rfl) ?_
  refine lv_iload_n hx hb dX0_leaf_3 rfl (lv_at hl 1 rfl) ?_
  refine lv_iload_n hx hb dX0_leaf_4 rfl (lv_at hl 2 rfl) ?_
  refine mm_callV (As := [.int kd, .int i]) (rest := [.int 0, .ref ob]) ⟨hx, hb, hml, hown, hts⟩ hE hST hA (c_X1_leaf l Z htr hC8) (cwV 2 hts (lw_V q194 q195 q196 q50 q197) rfl rfl rfl (by decide +kernel) ⟨(Nat.le_of_ble_eq_true rfl), (Nat.le_of_ble_eq_true rfl)⟩) hM hS mm_cX1 ho9 rfl hl.1 (Nat.le_of_ble_eq_true rfl) dX0_leaf_5 rfl ⟨(Nat.le_of_ble_eq_true rfl), (Nat.le_of_ble_eq_true rfl)⟩ ?_ (fun v_1 M_2 H locs hp_3 hM hS => ?_)
  · intro E ce q9 M9 H1 locs1 hp9 hM9 hS9 hce hcv hcl
    rcases hp9.1 with ⟨hc, rfl⟩ | ⟨hc, hn, rfl⟩ | ⟨hc, ps, hp, hn, rfl⟩
    · skip
      refine mm_catch (name := "java/lang/IllegalArgumentException") (own := "RowenTongueLaw") hown hE htab [] _ _ rfl (fun z hz => by simp at hz) rfl (by decide) (hts _ q192) q203 hce hcv hcl ?_
      have hM := hM9
      have hS := hS9
      refine lv_astore hx hb dX0_leaf_13 hl (by decide) rfl (fun ls hl => ?_)
      replace hl : lv_has ls 5 [(4, .ref q9), (0, .ref o), (1, .int kd), (2, .int i), (3, .ref ob)] := hl
      refine lv_iconst (v := 1) hx hb dX0_leaf_15 (by decide) ?_
      exact mm_reti hx hb hr hlk hM hS (Or.inr ⟨1, rfl, Or.inl ⟨hc, rfl⟩, hp9.2⟩) dX0_leaf_16 (Nat.le_of_ble_eq_true rfl) (Nat.le_of_ble_eq_true rfl)
    · skip
      exact absurd (trivial : pt_p T [] []) (hn [])
    · skip
      refine mm_catch (name := "java/lang/IllegalStateException") (own := "RowenTongueLaw") hown hE htab (tableOf [(0, 10, 13, 13)]) _ _ rfl (fun z hz => by simp only [tableOf, List.map, List.mem_cons, List.not_mem_nil, or_false] at hz; rcases hz with rfl; all_goals first | exact Or.inl rfl | exact Or.inr ⟨by decide, _, hts _ q192, hE.2.2.2.1 _ _ (by decide +kernel)⟩) rfl (by decide) (hts _ q193) q321 hce hcv hcl ?_
      have hM := hM9
      have hS := hS9
      refine lv_astore hx hb dX0_leaf_17 hl (by decide) rfl (fun ls hl => ?_)
      replace hl : lv_has ls 5 [(4, .ref q9), (0, .ref o), (1, .int kd), (2, .int i), (3, .ref ob)] := hl
      refine lv_iconst (v := 2) hx hb dX0_leaf_19 (by decide) ?_
      exact mm_reti hx hb hr hlk hM hS (Or.inr ⟨2, rfl, Or.inr (Or.inr ⟨hc, ps, hp, hn, rfl⟩), hp9.2⟩) dX0_leaf_20 (Nat.le_of_ble_eq_true rfl) (Nat.le_of_ble_eq_true rfl)
  obtain ⟨hcan, ps, hps, hok, rfl, ⟨a, ar', cap', hco⟩, hfr⟩ := hp_3
  have hob8 : M_2 ob = some (lo_E Z f0) := (hfr ob (by rw [hob9]; exact fun h => by cases h) n2 n3).trans hob9
  refine lv_i2l (v := (nI T.length : Int32).toInt64) hx hb dX0_leaf_8 rfl ?_
  refine mm_lastK (k := 0) hx hb hE hM hS hob8 (by decide) (by decide) (by decide) dX0_leaf_9 (fun H locs hM hS => ?_)
  refine lv_goto (tgt := 21) hx hb dX0_leaf_10 (by decide) ?_
  refine lv_iconst (v := 0) hx hb dX0_leaf_21 (by decide) ?_
  exact mm_reti hx hb hr hlk hM hS (Or.inl ⟨hcan, ps, hps, hok, rfl, ⟨_, mm_U_eq, by simp [vp_updL]⟩, ⟨a, ar', cap', hco.lo hob8⟩, fun q h1 h2 h3 h4 => (mm_U_ne h4).trans (hfr q h1 h2 h3)⟩) dX0_leaf_22 (Nat.le_of_ble_eq_true rfl) (Nat.le_of_ble_eq_true rfl)
set_option maxHeartbeats 4000000 in
set_option maxRecDepth 100000 in
theorem c_X0_named (l : Launch) (Z : mm_G) {M : mm_M} (htr : l.stackTraces = false) {o tl ar cap : Nat} {er st : Int32} {rs : Option Nat} {ad : List Nat} {F : Nat → Option Nat} {T : List pt_R} (hC9 : co_T Z M o er st rs tl ar cap ad F T) {kd wh i1 i2 : Int32} {ob : Nat} {f0 : Nat → Int64} (hob9 : M ob = some (lo_E Z f0)) : mm_C l Z yX0_named (wsW_ yX0_named cX0_named 7 (some .int) [((0 : Nat), (14 : Nat), (17 : Nat), (13 : Nat)), ((0 : Nat), (14 : Nat), (21 : Nat), (21 : Nat)), ((0 : Nat), (14 : Nat), (25 : Nat), (15 : Nat))]) { frames := 12, cells := 12, slots := 280, locals := 380 } [.ref o, .int kd, .int wh, .int i1, .int i2, .ref ob] M (fun v M' => (((pn_two kd || pn_one kd) && decide (0 ≤ wh ∧ wh ≤ 9)) = true ∧ ∃ ps : List Nat, pt_p T (pn_spec (pn_two kd) i1 i2) ps ∧ (T.length < 120 ∧ pt_w T ps ≤ 30) ∧ v = some (.int 0) ∧ (∃ f : Nat → Int64, M' ob = some (lo_E Z f) ∧ f 0 = (nI T.length).toInt64) ∧ (∃ a ar' cap' : Nat, co_T Z M' o er st rs tl ar' cap' (ad ++ [a]) F (T ++ [(kd, wh, 0, ps, pt_w T ps)])) ∧ (∀ q : Nat, M q ≠ none → q ≠ tl → q ≠ ar → q ≠ ob → M' q = M q)) ∨ (∃ code : Int32, v = some (.int code) ∧ ((((pn_two kd || pn_one kd) && decide (0 ≤ wh ∧ wh ≤ 9)) = false ∧ code = 1) ∨ (((pn_two kd || pn_one kd) && decide (0 ≤ wh ∧ wh ≤ 9)) = true ∧ (∀ ps, ¬ pt_p T (pn_spec (pn_two kd) i1 i2) ps) ∧ code = 2) ∨ (((pn_two kd || pn_one kd) && decide (0 ≤ wh ∧ wh ≤ 9)) = true ∧ ∃ ps, pt_p T (pn_spec (pn_two kd) i1 i2) ps ∧ ¬ (T.length < 120 ∧ pt_w T ps ≤ 30) ∧ code = 3)) ∧ mm_Ext M M')) mm_nx := by
  refine mm_ofWH (cc := cX0_named) (maxL := 7) (ret := (some .int)) (hh := [((0 : Nat), (14 : Nat), (17 : Nat), (13 : Nat)), ((0 : Nat), (14 : Nat), (21 : Nat), (21 : Nat)), ((0 : Nat), (14 : Nat), (25 : Nat), (15 : Nat))]) (by decide) rfl (Nat.le_of_ble_eq_true rfl) ?_
  intro p e s m below meth c A ls hx hb hr hlk hml hown hmn hts htab hE hST hA hM hS hl
  replace hl : lv_has ls 7 [(0, .ref o), (1, .int kd), (2, .int wh), (3, .int i1), (4, .int i2), (5, .ref ob)] := hl
  have hC8 := hC9
  obtain ⟨ho9, -, -, -⟩ := hC9
  obtain ⟨md9, f9, hal9, har9, -⟩ := hC8.2.1
  have n1 : ob ≠ o := mm_neA hob9 ho9
  have n2 : ob ≠ tl := mm_neA hob9 hal9
  have n3 : ob ≠ ar := mm_neL hob9 har9
  refine lv_aload hx hb dX0_named_0 (lv_at hl 5 rfl) ?_
  refine lv_iconst (v := 0) hx hb dX0_named_2 (by decide) ?_
  refine lv_aload_n hx hb dX0_named_3 rfl (lv_at hl 0 rfl) ?_
  refine lv_iload_n hx hb dX0_named_4 rfl (lv_at hl 1 rfl) ?_
  refine lv_iload_n hx hb dX0_named_5 rfl (lv_at hl 2 rfl) ?_
  refine lv_iload_n hx hb dX0_named_6 rfl (lv_at hl 3 rfl) ?_
  refine lv_iload hx hb dX0_named_7 (lv_at hl 4 rfl) ?_
  refine mm_callV (As := [.int kd, .int wh, .int i1, .int i2]) (rest := [.int 0, .ref ob]) ⟨hx, hb, hml, hown, hts⟩ hE hST hA (c_X1_named l Z htr hC8) (cwV 4 hts (lw_V q469 q470 q471 q50 q472) rfl rfl rfl (by decide +kernel) ⟨(Nat.le_of_ble_eq_true rfl), (Nat.le_of_ble_eq_true rfl)⟩) hM hS mm_cX1 ho9 rfl hl.1 (Nat.le_of_ble_eq_true rfl) dX0_named_9 rfl ⟨(Nat.le_of_ble_eq_true rfl), (Nat.le_of_ble_eq_true rfl)⟩ ?_ (fun v_1 M_2 H locs hp_3 hM hS => ?_)
  · intro E ce q9 M9 H1 locs1 hp9 hM9 hS9 hce hcv hcl
    rcases hp9.1 with ⟨hc, rfl⟩ | ⟨hc, hn, rfl⟩ | ⟨hc, ps, hp, hn, rfl⟩
    · skip
      refine mm_catch (name := "java/lang/IllegalArgumentException") (own := "RowenTongueLaw") hown hE htab [] _ _ rfl (fun z hz => by simp at hz) rfl (by decide) (hts _ q192) q203 hce hcv hcl ?_
      have hM := hM9
      have hS := hS9
      refine lv_astore hx hb dX0_named_17 hl (by decide) rfl (fun ls hl => ?_)
      replace hl : lv_has ls 7 [(6, .ref q9), (0, .ref o), (1, .int kd), (2, .int wh), (3, .int i1), (4, .int i2), (5, .ref ob)] := hl
      refine lv_iconst (v := 1) hx hb dX0_named_19 (by decide) ?_
      exact mm_reti hx hb hr hlk hM hS (Or.inr ⟨1, rfl, Or.inl ⟨hc, rfl⟩, hp9.2⟩) dX0_named_20 (Nat.le_of_ble_eq_true rfl) (Nat.le_of_ble_eq_true rfl)
    · skip
      refine mm_catch (name := "java/lang/IndexOutOfBoundsException") (own := "RowenTongueLaw") hown hE htab (tableOf [(0, 14, 17, 13)]) _ _ rfl (fun z hz => by simp only [tableOf, List.map, List.mem_cons, List.not_mem_nil, or_false] at hz; rcases hz with rfl; all_goals first | exact Or.inl rfl | exact Or.inr ⟨by decide, _, hts _ q192, hE.2.2.2.1 _ _ (by decide +kernel)⟩) rfl (by decide) (hts _ q437) q486 hce hcv hcl ?_
      have hM := hM9
      have hS := hS9
      refine lv_astore hx hb dX0_named_21 hl (by decide) rfl (fun ls hl => ?_)
      replace hl : lv_has ls 7 [(6, .ref q9), (0, .ref o), (1, .int kd), (2, .int wh), (3, .int i1), (4, .int i2), (5, .ref ob)] := hl
      refine lv_iconst (v := 2) hx hb dX0_named_23 (by decide) ?_
      exact mm_reti hx hb hr hlk hM hS (Or.inr ⟨2, rfl, Or.inr (Or.inl ⟨hc, hn, rfl⟩), hp9.2⟩) dX0_named_24 (Nat.le_of_ble_eq_true rfl) (Nat.le_of_ble_eq_true rfl)
    · skip
      refine mm_catch (name := "java/lang/IllegalStateException") (own := "RowenTongueLaw") hown hE htab (tableOf [(0, 14, 17, 13), (0, 14, 21, 21)]) _ _ rfl (fun z hz => by simp only [tableOf, List.map, List.mem_cons, List.not_mem_nil, or_false] at hz; rcases hz with rfl | rfl; all_goals first | exact Or.inl rfl | exact Or.inr ⟨by decide, _, hts _ q192, hE.2.2.2.1 _ _ (by decide +kernel)⟩ | exact Or.inr ⟨by decide, _, hts _ q437, hE.2.2.2.1 _ _ (by decide +kernel)⟩) rfl (by decide) (hts _ q193) q321 hce hcv hcl ?_
      have hM := hM9
      have hS := hS9
      refine lv_astore hx hb dX0_named_25 hl (by decide) rfl (fun ls hl => ?_)
      replace hl : lv_has ls 7 [(6, .ref q9), (0, .ref o), (1, .int kd), (2, .int wh), (3, .int i1), (4, .int i2), (5, .ref ob)] := hl
      refine lv_iconst (v := 3) hx hb dX0_named_27 (by decide) ?_
      exact mm_reti hx hb hr hlk hM hS (Or.inr ⟨3, rfl, Or.inr (Or.inr ⟨hc, ps, hp, hn, rfl⟩), hp9.2⟩) dX0_named_28 (Nat.le_of_ble_eq_true rfl) (Nat.le_of_ble_eq_true rfl)
  obtain ⟨hcan, ps, hps, hok, rfl, ⟨a, ar', cap', hco⟩, hfr⟩ := hp_3
  have hob8 : M_2 ob = some (lo_E Z f0) := (hfr ob (by rw [hob9]; exact fun h => by cases h) n2 n3).trans hob9
  refine lv_i2l (v := (nI T.length : Int32).toInt64) hx hb dX0_named_12 rfl ?_
  refine mm_lastK (k := 0) hx hb hE hM hS hob8 (by decide) (by decide) (by decide) dX0_named_13 (fun H locs hM hS => ?_)
  refine lv_goto (tgt := 29) hx hb dX0_named_14 (by decide) ?_
  refine lv_iconst (v := 0) hx hb dX0_named_29 (by decide) ?_
  exact mm_reti hx hb hr hlk hM hS (Or.inl ⟨hcan, ps, hps, hok, rfl, ⟨_, mm_U_eq, by simp [vp_updL]⟩, ⟨a, ar', cap', hco.lo hob8⟩, fun q h1 h2 h3 h4 => (mm_U_ne h4).trans (hfr q h1 h2 h3)⟩) dX0_named_30 (Nat.le_of_ble_eq_true rfl) (Nat.le_of_ble_eq_true rfl)
set_option maxHeartbeats 4000000 in
set_option maxRecDepth 100000 in
theorem c_X0_made (l : Launch) (Z : mm_G) {M : mm_M} (htr : l.stackTraces = false) {o tl ar cap : Nat} {er st : Int32} {rs : Option Nat} {ad : List Nat} {F : Nat → Option Nat} {T : List pt_R} (hC9 : co_T Z M o er st rs tl ar cap ad F T) {kd i1 i2 i3 : Int32} {ob : Nat} {f0 : Nat → Int64} (hob9 : M ob = some (lo_E Z f0)) : mm_C l Z yX0_made (wsW_ yX0_made cX0_made 7 (some .int) [((0 : Nat), (14 : Nat), (17 : Nat), (13 : Nat)), ((0 : Nat), (14 : Nat), (21 : Nat), (21 : Nat)), ((0 : Nat), (14 : Nat), (25 : Nat), (15 : Nat))]) { frames := 12, cells := 12, slots := 280, locals := 380 } [.ref o, .int kd, .int i1, .int i2, .int i3, .ref ob] M (fun v M' => (pm_can kd = true ∧ ∃ ps : List Nat, pt_p T (pm_spec kd i1 i2 i3) ps ∧ (T.length < 120 ∧ pt_w T ps ≤ 30) ∧ v = some (.int 0) ∧ (∃ f : Nat → Int64, M' ob = some (lo_E Z f) ∧ f 0 = (nI T.length).toInt64) ∧ (∃ a ar' cap' : Nat, co_T Z M' o er st rs tl ar' cap' (ad ++ [a]) F (T ++ [(kd, 0, 0, ps, pt_w T ps)])) ∧ (∀ q : Nat, M q ≠ none → q ≠ tl → q ≠ ar → q ≠ ob → M' q = M q)) ∨ (∃ code : Int32, v = some (.int code) ∧ ((pm_can kd = false ∧ code = 1) ∨ (pm_can kd = true ∧ (∀ ps, ¬ pt_p T (pm_spec kd i1 i2 i3) ps) ∧ code = 2) ∨ (pm_can kd = true ∧ ∃ ps, pt_p T (pm_spec kd i1 i2 i3) ps ∧ ¬ (T.length < 120 ∧ pt_w T ps ≤ 30) ∧ code = 3)) ∧ mm_Ext M M')) mm_nx := by
  refine mm_ofWH (cc := cX0_made) (maxL := 7) (ret := (some .int)) (hh := [((0 : Nat), (14 : Nat), (17 : Nat), (13 : Nat)), ((0 : Nat), (14 : Nat), (21 : Nat), (21 : Nat)), ((0 : Nat), (14 : Nat), (25 : Nat), (15 : Nat))]) (by decide) rfl (Nat.le_of_ble_eq_true rfl) ?_
  intro p e s m below meth c A ls hx hb hr hlk hml hown hmn hts htab hE hST hA hM hS hl
  replace hl : lv_has ls 7 [(0, .ref o), (1, .int kd), (2, .int i1), (3, .int i2), (4, .int i3), (5, .ref ob)] := hl
  have hC8 := hC9
  obtain ⟨ho9, -, -, -⟩ := hC9
  obtain ⟨md9, f9, hal9, har9, -⟩ := hC8.2.1
  have n1 : ob ≠ o := mm_neA hob9 ho9
  have n2 : ob ≠ tl := mm_neA hob9 hal9
  have n3 : ob ≠ ar := mm_neL hob9 har9
  refine lv_aload hx hb dX0_made_0 (lv_at hl 5 rfl) ?_
  refine lv_iconst (v := 0) hx hb dX0_made_2 (by decide) ?_
  refine lv_aload_n hx hb dX0_made_3 rfl (lv_at hl 0 rfl) ?_
  refine lv_iload_n hx hb dX0_made_4 rfl (lv_at hl 1 rfl) ?_
  refine lv_iload_n hx hb dX0_made_5 rfl (lv_at hl 2 rfl) ?_
  refine lv_iload_n hx hb dX0_made_6 rfl (lv_at hl 3 rfl) ?_
  refine lv_iload hx hb dX0_made_7 (lv_at hl 4 rfl) ?_
  refine mm_callV (As := [.int kd, .int i1, .int i2, .int i3]) (rest := [.int 0, .ref ob]) ⟨hx, hb, hml, hown, hts⟩ hE hST hA (c_X1_made l Z htr hC8) (cwV 4 hts (lw_V q520 q521 q522 q50 q523) rfl rfl rfl (by decide +kernel) ⟨(Nat.le_of_ble_eq_true rfl), (Nat.le_of_ble_eq_true rfl)⟩) hM hS mm_cX1 ho9 rfl hl.1 (Nat.le_of_ble_eq_true rfl) dX0_made_9 rfl ⟨(Nat.le_of_ble_eq_true rfl), (Nat.le_of_ble_eq_true rfl)⟩ ?_ (fun v_1 M_2 H locs hp_3 hM hS => ?_)
  · intro E ce q9 M9 H1 locs1 hp9 hM9 hS9 hce hcv hcl
    rcases hp9.1 with ⟨hc, rfl⟩ | ⟨hc, hn, rfl⟩ | ⟨hc, ps, hp, hn, rfl⟩
    · skip
      refine mm_catch (name := "java/lang/IllegalArgumentException") (own := "RowenTongueLaw") hown hE htab [] _ _ rfl (fun z hz => by simp at hz) rfl (by decide) (hts _ q192) q203 hce hcv hcl ?_
      have hM := hM9
      have hS := hS9
      refine lv_astore hx hb dX0_made_17 hl (by decide) rfl (fun ls hl => ?_)
      replace hl : lv_has ls 7 [(6, .ref q9), (0, .ref o), (1, .int kd), (2, .int i1), (3, .int i2), (4, .int i3), (5, .ref ob)] := hl
      refine lv_iconst (v := 1) hx hb dX0_made_19 (by decide) ?_
      exact mm_reti hx hb hr hlk hM hS (Or.inr ⟨1, rfl, Or.inl ⟨hc, rfl⟩, hp9.2⟩) dX0_made_20 (Nat.le_of_ble_eq_true rfl) (Nat.le_of_ble_eq_true rfl)
    · skip
      refine mm_catch (name := "java/lang/IndexOutOfBoundsException") (own := "RowenTongueLaw") hown hE htab (tableOf [(0, 14, 17, 13)]) _ _ rfl (fun z hz => by simp only [tableOf, List.map, List.mem_cons, List.not_mem_nil, or_false] at hz; rcases hz with rfl; all_goals first | exact Or.inl rfl | exact Or.inr ⟨by decide, _, hts _ q192, hE.2.2.2.1 _ _ (by decide +kernel)⟩) rfl (by decide) (hts _ q437) q486 hce hcv hcl ?_
      have hM := hM9
      have hS := hS9
      refine lv_astore hx hb dX0_made_21 hl (by decide) rfl (fun ls hl => ?_)
      replace hl : lv_has ls 7 [(6, .ref q9), (0, .ref o), (1, .int kd), (2, .int i1), (3, .int i2), (4, .int i3), (5, .ref ob)] := hl
      refine lv_iconst (v := 2) hx hb dX0_made_23 (by decide) ?_
      exact mm_reti hx hb hr hlk hM hS (Or.inr ⟨2, rfl, Or.inr (Or.inl ⟨hc, hn, rfl⟩), hp9.2⟩) dX0_made_24 (Nat.le_of_ble_eq_true rfl) (Nat.le_of_ble_eq_true rfl)
    · skip
      refine mm_catch (name := "java/lang/IllegalStateException") (own := "RowenTongueLaw") hown hE htab (tableOf [(0, 14, 17, 13), (0, 14, 21, 21)]) _ _ rfl (fun z hz => by simp only [tableOf, List.map, List.mem_cons, List.not_mem_nil, or_false] at hz; rcases hz with rfl | rfl; all_goals first | exact Or.inl rfl | exact Or.inr ⟨by decide, _, hts _ q192, hE.2.2.2.1 _ _ (by decide +kernel)⟩ | exact Or.inr ⟨by decide, _, hts _ q437, hE.2.2.2.1 _ _ (by decide +kernel)⟩) rfl (by decide) (hts _ q193) q321 hce hcv hcl ?_
      have hM := hM9
      have hS := hS9
      refine lv_astore hx hb dX0_made_25 hl (by decide) rfl (fun ls hl => ?_)
      replace hl : lv_has ls 7 [(6, .ref q9), (0, .ref o), (1, .int kd), (2, .int i1), (3, .int i2), (4, .int i3), (5, .ref ob)] := hl
      refine lv_iconst (v := 3) hx hb dX0_made_27 (by decide) ?_
      exact mm_reti hx hb hr hlk hM hS (Or.inr ⟨3, rfl, Or.inr (Or.inr ⟨hc, ps, hp, hn, rfl⟩), hp9.2⟩) dX0_made_28 (Nat.le_of_ble_eq_true rfl) (Nat.le_of_ble_eq_true rfl)
  obtain ⟨hcan, ps, hps, hok, rfl, ⟨a, ar', cap', hco⟩, hfr⟩ := hp_3
  have hob8 : M_2 ob = some (lo_E Z f0) := (hfr ob (by rw [hob9]; exact fun h => by cases h) n2 n3).trans hob9
  refine lv_i2l (v := (nI T.length : Int32).toInt64) hx hb dX0_made_12 rfl ?_
  refine mm_lastK (k := 0) hx hb hE hM hS hob8 (by decide) (by decide) (by decide) dX0_made_13 (fun H locs hM hS => ?_)
  refine lv_goto (tgt := 29) hx hb dX0_made_14 (by decide) ?_
  refine lv_iconst (v := 0) hx hb dX0_made_29 (by decide) ?_
  exact mm_reti hx hb hr hlk hM hS (Or.inl ⟨hcan, ps, hps, hok, rfl, ⟨_, mm_U_eq, by simp [vp_updL]⟩, ⟨a, ar', cap', hco.lo hob8⟩, fun q h1 h2 h3 h4 => (mm_U_ne h4).trans (hfr q h1 h2 h3)⟩) dX0_made_30 (Nat.le_of_ble_eq_true rfl) (Nat.le_of_ble_eq_true rfl)
set_option maxHeartbeats 4000000 in
set_option maxRecDepth 100000 in
theorem c_X0_match (l : Launch) (Z : mm_G) {M : mm_M} (htr : l.stackTraces = false) {o tl ar cap : Nat} {er st : Int32} {rs : Option Nat} {ad : List Nat} {F : Nat → Option Nat} {T : List pt_R} (hC9 : co_T Z M o er st rs tl ar cap ad F T) {lb nm i1 i2 : Int32} {ob : Nat} {f0 : Nat → Int64} (hob9 : M ob = some (lo_E Z f0)) : mm_C l Z yX0_match (wsW_ yX0_match cX0_match 7 (some .int) [((0 : Nat), (14 : Nat), (17 : Nat), (13 : Nat)), ((0 : Nat), (14 : Nat), (21 : Nat), (21 : Nat)), ((0 : Nat), (14 : Nat), (25 : Nat), (15 : Nat))]) { frames := 12, cells := 12, slots := 280, locals := 380 } [.ref o, .int lb, .int nm, .int i1, .int i2, .ref ob] M (fun v M' => ((decide (0 ≤ lb ∧ lb ≤ 9) && decide (0 ≤ nm ∧ nm ≤ 9)) = true ∧ ∃ ps : List Nat, pt_p T [(false, i1), (true, i2)] ps ∧ (T.length < 120 ∧ pt_w T ps ≤ 30) ∧ v = some (.int 0) ∧ (∃ f : Nat → Int64, M' ob = some (lo_E Z f) ∧ f 0 = (nI T.length).toInt64) ∧ (∃ a ar' cap' : Nat, co_T Z M' o er st rs tl ar' cap' (ad ++ [a]) F (T ++ [(17, lb, nm, ps, pt_w T ps)])) ∧ (∀ q : Nat, M q ≠ none → q ≠ tl → q ≠ ar → q ≠ ob → M' q = M q)) ∨ (∃ code : Int32, v = some (.int code) ∧ (((decide (0 ≤ lb ∧ lb ≤ 9) && decide (0 ≤ nm ∧ nm ≤ 9)) = false ∧ code = 1) ∨ ((decide (0 ≤ lb ∧ lb ≤ 9) && decide (0 ≤ nm ∧ nm ≤ 9)) = true ∧ (∀ ps, ¬ pt_p T [(false, i1), (true, i2)] ps) ∧ code = 2) ∨ ((decide (0 ≤ lb ∧ lb ≤ 9) && decide (0 ≤ nm ∧ nm ≤ 9)) = true ∧ ∃ ps, pt_p T [(false, i1), (true, i2)] ps ∧ ¬ (T.length < 120 ∧ pt_w T ps ≤ 30) ∧ code = 3)) ∧ mm_Ext M M')) mm_nx := by
  refine mm_ofWH (cc := cX0_match) (maxL := 7) (ret := (some .int)) (hh := [((0 : Nat), (14 : Nat), (17 : Nat), (13 : Nat)), ((0 : Nat), (14 : Nat), (21 : Nat), (21 : Nat)), ((0 : Nat), (14 : Nat), (25 : Nat), (15 : Nat))]) (by decide) rfl (Nat.le_of_ble_eq_true rfl) ?_
  intro p e s m below meth c A ls hx hb hr hlk hml hown hmn hts htab hE hST hA hM hS hl
  replace hl : lv_has ls 7 [(0, .ref o), (1, .int lb), (2, .int nm), (3, .int i1), (4, .int i2), (5, .ref ob)] := hl
  have hC8 := hC9
  obtain ⟨ho9, -, -, -⟩ := hC9
  obtain ⟨md9, f9, hal9, har9, -⟩ := hC8.2.1
  have n1 : ob ≠ o := mm_neA hob9 ho9
  have n2 : ob ≠ tl := mm_neA hob9 hal9
  have n3 : ob ≠ ar := mm_neL hob9 har9
  refine lv_aload hx hb dX0_match_0 (lv_at hl 5 rfl) ?_
  refine lv_iconst (v := 0) hx hb dX0_match_2 (by decide) ?_
  refine lv_aload_n hx hb dX0_match_3 rfl (lv_at hl 0 rfl) ?_
  refine lv_iload_n hx hb dX0_match_4 rfl (lv_at hl 1 rfl) ?_
  refine lv_iload_n hx hb dX0_match_5 rfl (lv_at hl 2 rfl) ?_
  refine lv_iload_n hx hb dX0_match_6 rfl (lv_at hl 3 rfl) ?_
  refine lv_iload hx hb dX0_match_7 (lv_at hl 4 rfl) ?_
  refine mm_callV (As := [.int lb, .int nm, .int i1, .int i2]) (rest := [.int 0, .ref ob]) ⟨hx, hb, hml, hown, hts⟩ hE hST hA (c_X1_match l Z htr hC8) (cwV 4 hts (lw_V q527 q528 q529 q50 q530) rfl rfl rfl (by decide +kernel) ⟨(Nat.le_of_ble_eq_true rfl), (Nat.le_of_ble_eq_true rfl)⟩) hM hS mm_cX1 ho9 rfl hl.1 (Nat.le_of_ble_eq_true rfl) dX0_match_9 rfl ⟨(Nat.le_of_ble_eq_true rfl), (Nat.le_of_ble_eq_true rfl)⟩ ?_ (fun v_1 M_2 H locs hp_3 hM hS => ?_)
  · intro E ce q9 M9 H1 locs1 hp9 hM9 hS9 hce hcv hcl
    rcases hp9.1 with ⟨hc, rfl⟩ | ⟨hc, hn, rfl⟩ | ⟨hc, ps, hp, hn, rfl⟩
    · skip
      refine mm_catch (name := "java/lang/IllegalArgumentException") (own := "RowenTongueLaw") hown hE htab [] _ _ rfl (fun z hz => by simp at hz) rfl (by decide) (hts _ q192) q203 hce hcv hcl ?_
      have hM := hM9
      have hS := hS9
      refine lv_astore hx hb dX0_match_17 hl (by decide) rfl (fun ls hl => ?_)
      replace hl : lv_has ls 7 [(6, .ref q9), (0, .ref o), (1, .int lb), (2, .int nm), (3, .int i1), (4, .int i2), (5, .ref ob)] := hl
      refine lv_iconst (v := 1) hx hb dX0_match_19 (by decide) ?_
      exact mm_reti hx hb hr hlk hM hS (Or.inr ⟨1, rfl, Or.inl ⟨hc, rfl⟩, hp9.2⟩) dX0_match_20 (Nat.le_of_ble_eq_true rfl) (Nat.le_of_ble_eq_true rfl)
    · skip
      refine mm_catch (name := "java/lang/IndexOutOfBoundsException") (own := "RowenTongueLaw") hown hE htab (tableOf [(0, 14, 17, 13)]) _ _ rfl (fun z hz => by simp only [tableOf, List.map, List.mem_cons, List.not_mem_nil, or_false] at hz; rcases hz with rfl; all_goals first | exact Or.inl rfl | exact Or.inr ⟨by decide, _, hts _ q192, hE.2.2.2.1 _ _ (by decide +kernel)⟩) rfl (by decide) (hts _ q437) q486 hce hcv hcl ?_
      have hM := hM9
      have hS := hS9
      refine lv_astore hx hb dX0_match_21 hl (by decide) rfl (fun ls hl => ?_)
      replace hl : lv_has ls 7 [(6, .ref q9), (0, .ref o), (1, .int lb), (2, .int nm), (3, .int i1), (4, .int i2), (5, .ref ob)] := hl
      refine lv_iconst (v := 2) hx hb dX0_match_23 (by decide) ?_
      exact mm_reti hx hb hr hlk hM hS (Or.inr ⟨2, rfl, Or.inr (Or.inl ⟨hc, hn, rfl⟩), hp9.2⟩) dX0_match_24 (Nat.le_of_ble_eq_true rfl) (Nat.le_of_ble_eq_true rfl)
    · skip
      refine mm_catch (name := "java/lang/IllegalStateException") (own := "RowenTongueLaw") hown hE htab (tableOf [(0, 14, 17, 13), (0, 14, 21, 21)]) _ _ rfl (fun z hz => by simp only [tableOf, List.map, List.mem_cons, List.not_mem_nil, or_false] at hz; rcases hz with rfl | rfl; all_goals first | exact Or.inl rfl | exact Or.inr ⟨by decide, _, hts _ q192, hE.2.2.2.1 _ _ (by decide +kernel)⟩ | exact Or.inr ⟨by decide, _, hts _ q437, hE.2.2.2.1 _ _ (by decide +kernel)⟩) rfl (by decide) (hts _ q193) q321 hce hcv hcl ?_
      have hM := hM9
      have hS := hS9
      refine lv_astore hx hb dX0_match_25 hl (by decide) rfl (fun ls hl => ?_)
      replace hl : lv_has ls 7 [(6, .ref q9), (0, .ref o), (1, .int lb), (2, .int nm), (3, .int i1), (4, .int i2), (5, .ref ob)] := hl
      refine lv_iconst (v := 3) hx hb dX0_match_27 (by decide) ?_
      exact mm_reti hx hb hr hlk hM hS (Or.inr ⟨3, rfl, Or.inr (Or.inr ⟨hc, ps, hp, hn, rfl⟩), hp9.2⟩) dX0_match_28 (Nat.le_of_ble_eq_true rfl) (Nat.le_of_ble_eq_true rfl)
  obtain ⟨hcan, ps, hps, hok, rfl, ⟨a, ar', cap', hco⟩, hfr⟩ := hp_3
  have hob8 : M_2 ob = some (lo_E Z f0) := (hfr ob (by rw [hob9]; exact fun h => by cases h) n2 n3).trans hob9
  refine lv_i2l (v := (nI T.length : Int32).toInt64) hx hb dX0_match_12 rfl ?_
  refine mm_lastK (k := 0) hx hb hE hM hS hob8 (by decide) (by decide) (by decide) dX0_match_13 (fun H locs hM hS => ?_)
  refine lv_goto (tgt := 29) hx hb dX0_match_14 (by decide) ?_
  refine lv_iconst (v := 0) hx hb dX0_match_29 (by decide) ?_
  exact mm_reti hx hb hr hlk hM hS (Or.inl ⟨hcan, ps, hps, hok, rfl, ⟨_, mm_U_eq, by simp [vp_updL]⟩, ⟨a, ar', cap', hco.lo hob8⟩, fun q h1 h2 h3 h4 => (mm_U_ne h4).trans (hfr q h1 h2 h3)⟩) dX0_match_30 (Nat.le_of_ble_eq_true rfl) (Nat.le_of_ble_eq_true rfl)
