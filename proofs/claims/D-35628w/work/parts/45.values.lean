/-! ===== values' rows; Bundle's constructor, copy; caseOf, rowOf ===== -/
set_option maxRecDepth 100000
/-- a value of the component's -/
def mm_isV (M : mm_M) (y : Nat) : Prop := ∃ (ci : Nat) (fs : List Value), M y = some (.inr (ci, fs)) ∧ (ci = 27 ∨ ci = 28 ∨ ci = 30 ∨ ci = 31)
theorem cr.isV {Z : mm_G} {M : mm_M} {ad : List Nat} {T : List pt_R} {v : ev} {f : Nat → Option Nat} {o : Option Nat} (h : cr Z M ad T v 0 f o) : ∃ a, o = some a ∧ mm_isV M a := by
  unfold cr at h
  split at h
  · obtain ⟨a, h1, h2⟩ := h; exact ⟨a, h1, _, _, h2, by decide⟩
  · obtain ⟨a, r, j, b, sc, h1, h2, h3, h4, h5, h6⟩ := h; exact ⟨a, h1, _, _, h5, by decide⟩
  · obtain ⟨a, b, h1, h2, h3⟩ := h; exact ⟨a, h1, _, _, h2, by decide⟩
  · obtain ⟨a, q, f, h1, h2, h3, h4, h5⟩ := h; exact ⟨a, h1, _, _, h2, by decide⟩
  all_goals (first | exact h.elim | (rename_i h9; exact absurd h9 (by decide)) | simp_all)
section MVA
variable {p : Program} {l : Launch} {e : Env} {R : Room} {s : State} {m : MethodId} {args : Array Value} {below : List Frame} {meth : Method} {c : Code} {H : Heap} {locs : List Loc} {cells slots : Nat} {Q : State → Prop}
variable {cc : ByteArray} {pc : Nat} {ls : Array Slot} {rest : List Value} {A : Nat → Prop} {a : Nat} {M : mm_M} {H0 : Heap} {Z : mm_G}
theorem mm_anyV {y : Nat} (hE : mm_E Z s) (hM : mm_P Z.1 mm_cl A M H) (hy : mm_isV M y) : va_Any "RowenTongue$Value" s H y := by
  obtain ⟨ci, fs, h, hc⟩ := hy
  rcases hc with rfl | rfl | rfl | rfl
  · exact mm_any hE hM h mm_cX33 q2873
  · exact mm_any hE hM h mm_cX34 q2876
  · exact mm_any hE hM h mm_cX36 q2874
  · exact mm_any hE hM h mm_cX37 q2875
theorem mm_castVal (hexec : p.tables.exec = Jvm.exec) (hb : c.code = cc) {own : String} {index : Nat} (hown : s.vm.findClass own = some m.cls) (hlink : (Cond.classLink own index "RowenTongue$Value").before args s = true) (hE : mm_E Z s) (hM : mm_P Z.1 mm_cl A M H) (hy : mm_isV M a) (hdg : decode cc pc = .ok (.checkcast index, 3))
    (k : W p l e R s m args below meth c H locs cells slots Q (F0 m (pc + 3) ls (.ref a :: rest))) : W p l e R s m args below meth c H locs cells slots Q (F0 m pc ls (.ref a :: rest)) := by
  obtain ⟨ci, fs, h, hc⟩ := hy
  rcases hc with rfl | rfl | rfl | rfl
  · exact va_castY (C := RX33) hexec hb hown hlink (hE.2.1 _ q2873 rfl) (mm_recv hE hM mm_cX33 h) hdg k
  · exact va_castY (C := RX34) hexec hb hown hlink (hE.2.1 _ q2876 rfl) (mm_recv hE hM mm_cX34 h) hdg k
  · exact va_castY (C := RX36) hexec hb hown hlink (hE.2.1 _ q2874 rfl) (mm_recv hE hM mm_cX36 h) hdg k
  · exact va_castY (C := RX37) hexec hb hown hlink (hE.2.1 _ q2875 rfl) (mm_recv hE hM mm_cX37 h) hdg k
theorem mm_aastV (hexec : p.tables.exec = Jvm.exec) (hb : c.code = cc) (hE : mm_E Z s) (hM : mm_P Z.1 mm_cl A M H) (hS : va_S A H0 H locs) {n : Nat} {r : Option Nat} {f : Nat → Option Nat} (ha : M a = some (.inl (Z.2.1 6, n, .inr (.inr (.inr (.inr f)))))) (hr : ∀ v, r = some v → mm_isV M v) {i : Int32} {k : Nat} (hi : i = nI k) (hk : k < n) (hn : n < 2 ^ 31) (hdg : decode cc pc = .ok (.aastore, 1))
    (kk : ∀ (H1 : Heap) (locs1 : List Loc), mm_P Z.1 mm_cl A (mm_U M a (.inl (Z.2.1 6, n, .inr (.inr (.inr (.inr (va_up f k r))))))) H1 → va_S A H0 H1 locs1 → W p l e R s m args below meth c H1 locs1 cells slots Q (F0 m (pc + 1) ls rest)) : W p l e R s m args below meth c H locs cells slots Q (F0 m pc ls (va_rf r :: .int i :: .ref a :: rest)) := by
  obtain ⟨h1, h2⟩ := mm_ix hi hk hn
  rw [← h2] at kk
  cases r with
  | none => exact mm_astqN hexec hb hE.1 hM hS 6 ha rfl h1 hdg kk
  | some v => exact mm_astqM hexec hb hE.1 hM hS 6 ha rfl (mm_anyV hE hM (hr v rfl)) h1 hdg kk
theorem mm_copyV {cc : ByteArray} (hexec : p.tables.exec = Jvm.exec) (hb : c.code = cc) (hml : c.maxLocals = ls.size) {own : String} {index : Nat} (hown : s.vm.findClass own = some m.cls) (hlink : (Cond.methodLink own index arraycopyName).before args s = true) (hnat : (Cond.native arraycopyName).before args s = true) (hstat : (Cond.static arraycopyName).before args s = true) (hini : (Cond.initialized "java/lang/System").before args s = true)
    (hE : mm_E Z s) (hM : mm_P Z.1 mm_cl A M H) (hS : va_S A H0 H locs) {a0 : Nat} {n0 n1 : Nat} {f g : Nat → Option Nat} (ha0 : M a0 = some (.inl (Z.2.1 6, n0, .inr (.inr (.inr (.inr f)))))) (ha1 : M a = some (.inl (Z.2.1 6, n1, .inr (.inr (.inr (.inr g))))))
    {sp dp n : Int32} {kS kD kN : Nat} (e1 : sp = nI kS) (e2 : dp = nI kD) (e3 : n = nI kN) (h4 : kS + kN ≤ n0) (h5 : kD + kN ≤ n1) (hn0 : n0 < 2 ^ 31) (hn1 : n1 < 2 ^ 31) (hel : ∀ i : Nat, i < kN → ∀ y : Nat, f (kS + i) = some y → mm_isV M y)
    (hframes : 1 ≤ R.frames) (hlocals : (rest.map fun v => v.category).sum + (nativeFrameWords "java/lang/System" "arraycopy" 5 + 11) ≤ R.locals) (hdg : decode cc pc = .ok (.invokestatic index, 3))
    (kk : ∀ (H1 : Heap) (locs1 : List Loc), mm_P Z.1 mm_cl A (mm_U M a (.inl (Z.2.1 6, n1, .inr (.inr (.inr (.inr (va_cpy f g kS kD kN))))))) H1 → va_S A H0 H1 locs1 → W p l e R s m args below meth c H1 locs1 cells slots Q (F0 m (pc + 3) ls rest)) : W p l e R s m args below meth c H locs cells slots Q (F0 m pc ls (.int n :: .int dp :: .ref a :: .int sp :: .ref a0 :: rest)) := by
  subst e1; subst e2; subst e3
  have c1 : (nI kS).toNatClampNeg = kS := nI_clamp (by omega)
  have c2 : (nI kD).toNatClampNeg = kD := nI_clamp (by omega)
  have c3 : (nI kN).toNatClampNeg = kN := nI_clamp (by omega)
  have hM0 := hM
  obtain ⟨ws, hP, hD, hI⟩ := hM
  obtain ⟨q0, e0⟩ := (hI _ _).1 ha0
  obtain ⟨q1, e1⟩ := (hI _ _).1 ha1
  refine va_copyM hexec hb hml hown hlink hnat hstat hini hE.1 hP hD hS q0 q1 6 6 e0 e1 rfl rfl (nI_pos (by omega)) (nI_pos (by omega)) (nI_pos (by omega)) (by rw [c1, c3]; exact h4) (by rw [c2, c3]; exact h5) (fun i hi y hy => mm_anyV hE hM0 (hel i (by rw [c3] at hi; exact hi) y (by rw [c1] at hy; exact hy))) hframes hlocals hdg (fun H1 locs1 p1 d1 s1 => ?_)
  rw [c1, c2, c3] at p1 d1
  exact kk H1 locs1 ⟨_, p1, d1, mm_idx_set hD e1 hI _⟩ s1
end MVA

set_option maxHeartbeats 4000000 in
set_option maxRecDepth 100000 in
theorem c_X36_init (l : Launch) (Z : mm_G) {M : mm_M} {a : Nat} (ha9 : M a = some (.inr (30, [.null]))) : mm_C l Z yX36_init (ws_ yX36_init cX36_init 1 none) { frames := 2, cells := 1, slots := 10, locals := 40 } [.ref a] M (fun v M' => ∃ q : Nat, M q = none ∧ v = none ∧ M' = mm_U (mm_U M q (cv_A Z (fun _ => none))) a (.inr (30, [.ref q]))) mm_nx := by
  refine mm_ofW (cc := cX36_init) (maxL := 1) (ret := none) (by decide) rfl (Nat.le_of_ble_eq_true rfl) ?_
  intro p e s m below meth c A ls hx hb hr hlk hml hown hmn hts htab hE hST hA hM hS hl
  replace hl : lv_has ls 1 [(0, .ref a)] := hl
  refine lv_aload_n hx hb dX36_init_0 rfl (lv_at hl 0 rfl) ?_
  refine mm_callIN (As := []) (rest := []) ⟨hx, hb, hml, hown, hts⟩ hE hST hA (c_X32_init l Z (M := M) (h0 := a) ) ⟨va_cnB 0 hts (lw_meth q1830) rfl rfl rfl (hE.2.1 _ q1925 rfl) (hts _ q105) (by decide +kernel) ⟨(Nat.le_of_ble_eq_true rfl), (Nat.le_of_ble_eq_true rfl)⟩, rfl, hts _ q1829⟩ hM hS rfl hl.1 (Nat.le_of_ble_eq_true rfl) dX36_init_1 rfl ⟨(Nat.le_of_ble_eq_true rfl), (Nat.le_of_ble_eq_true rfl)⟩ (fun _ _ _ _ _ _ h9 => h9.elim) (fun v_1 M_2 H locs hp_3 hM hS => ?_)
  obtain ⟨rfl, eM_2⟩ := hp_3
  rw [eM_2] at hM
  refine lv_aload_n hx hb dX36_init_4 rfl (lv_at hl 0 rfl) ?_
  refine lv_bipush (v := 10) hx hb dX36_init_5 (by decide) ?_
  refine mm_newq hx hb hown (hts _ q1926) (hE.2.2.2.2.1 _ (by decide)) hE.1 hM hS hA 6 rfl (by decide) (show Int32.toNatClampNeg 10 = 10 from by decide) (by decide) (Nat.le_of_ble_eq_true rfl) (Nat.le_of_ble_eq_true rfl) dX36_init_7 (fun q_4 H nq_5 hM hS => ?_)
  have hM : mm_P Z.1 mm_cl A (mm_U M q_4 (.inl (Z.2.1 6, 10, .inr (.inr (.inr (.inr (fun _ => none))))))) H := hM
  have ne_6 : a ≠ q_4 := (mm_neN ha9 nq_5)
  have hc_7 : (mm_U M q_4 (.inl (Z.2.1 6, 10, .inr (.inr (.inr (.inr (fun _ => none))))))) q_4 = some (.inl (Z.2.1 6, 10, .inr (.inr (.inr (.inr (fun _ => none)))))) := mm_U_eq
  have hc_8 : (mm_U M q_4 (.inl (Z.2.1 6, 10, .inr (.inr (.inr (.inr (fun _ => none))))))) a = some (.inr (30, [.null])) := (mm_U_ne ne_6).trans ha9
  obtain ⟨M_9, eM_9⟩ : ∃ z, z = mm_U M q_4 (.inl (Z.2.1 6, 10, .inr (.inr (.inr (.inr (fun _ => none)))))) := ⟨_, rfl⟩
  rw [← eM_9] at hM hc_8 hc_7
  refine mm_putF (D := Z.1) (ci := 30) (v := .ref q_4) (ty := .array (.object "RowenTongue$Value")) (C := RX36) (T := TX36) (N := 1) hx hb hts in_X36 tyX36 tyX36_ok nmX36 hown hE.1 hM hS hc_8 mm_cX36 0 (by decide) (hts _ q1928) (fun _ h9 => h9) rfl hmn rfl (by decide +kernel) rfl rfl (Nat.le_of_ble_eq_true rfl) dX36_init_10 (fun H locs hM hS => ?_)
  have hM : mm_P Z.1 mm_cl A (mm_U M_9 a (.inr (30, [.ref q_4]))) H := hM
  have hc_10 : (mm_U M_9 a (.inr (30, [.ref q_4]))) a = some (.inr (30, [.ref q_4])) := mm_U_eq
  have hc_11 : (mm_U M_9 a (.inr (30, [.ref q_4]))) q_4 = some (.inl (Z.2.1 6, 10, .inr (.inr (.inr (.inr (fun _ => none)))))) := (mm_U_ne (Ne.symm ne_6)).trans hc_7
  obtain ⟨M_12, eM_12⟩ : ∃ z, z = mm_U M_9 a (.inr (30, [.ref q_4])) := ⟨_, rfl⟩
  rw [← eM_12] at hM hc_10 hc_11
  exact mm_retv hx hb hr hlk hM hS ⟨q_4, nq_5, rfl, by subst eM_12 eM_9; simp only [mm_U_U]⟩ dX36_init_13 (Nat.le_of_ble_eq_true rfl) (Nat.le_of_ble_eq_true rfl)
set_option maxHeartbeats 4000000 in
set_option maxRecDepth 100000 in
theorem c_X36_copy (l : Launch) (Z : mm_G) {M : mm_M} {a q : Nat} {f : Nat → Option Nat} (ha9 : M a = some (.inr (30, [.ref q]))) (hq9 : M q = some (cv_A Z f)) (hf9 : ∀ i y : Nat, i < 10 → f i = some y → mm_isV M y) : mm_C l Z yX36_copy (ws_ yX36_copy cX36_copy 2 (some (.object "RowenTongue$Bundle"))) { frames := 3, cells := 2, slots := 11, locals := 80 } [.ref a] M (fun v M' => ∃ (b q' : Nat) (g : Nat → Option Nat), M b = none ∧ M q' = none ∧ b ≠ q' ∧ v = some (.ref b) ∧ (∀ i : Nat, i < 10 → g i = f i) ∧ M' = mm_U (mm_U M q' (cv_A Z g)) b (.inr (30, [.ref q']))) mm_nx := by
  refine mm_ofW (cc := cX36_copy) (maxL := 2) (ret := (some (.object "RowenTongue$Bundle"))) (by decide) rfl (Nat.le_of_ble_eq_true rfl) ?_
  intro p e s m below meth c A ls hx hb hr hlk hml hown hmn hts htab hE hST hA hM hS hl
  replace hl : lv_has ls 2 [(0, .ref a)] := hl
  refine mm_new (D := Z.1) (ci := 30) (fs := mm_f0X36) (C := RX36) (T := TX36) (N := 1) hx hb hts in_X36 tyX36 tyX36_ok hown (hts _ q1905) (hts _ q1921) (hts _ q109) hE.1 hM hS hA mm_cX36 mm_dfX36 (Nat.le_of_ble_eq_true rfl) (Nat.le_of_ble_eq_true rfl) dX36_copy_0 (fun q_2 H nq_1 hM hS => ?_)
  have hM : mm_P Z.1 mm_cl A (mm_U M q_2 (.inr (30, [.null]))) H := hM
  have ne_3 : a ≠ q_2 := (mm_neN ha9 nq_1)
  have ne_4 : q ≠ q_2 := (mm_neN hq9 nq_1)
  have hc_5 : (mm_U M q_2 (.inr (30, [.null]))) q_2 = some (.inr (30, [.null])) := mm_U_eq
  have hc_6 : (mm_U M q_2 (.inr (30, [.null]))) a = some (.inr (30, [.ref q])) := (mm_U_ne ne_3).trans ha9
  have hc_7 : (mm_U M q_2 (.inr (30, [.null]))) q = some (.inl (Z.2.1 6, 10, .inr (.inr (.inr (.inr f))))) := (mm_U_ne ne_4).trans hq9
  obtain ⟨M_8, eM_8⟩ : ∃ z, z = mm_U M q_2 (.inr (30, [.null])) := ⟨_, rfl⟩
  rw [← eM_8] at hM hc_6 hc_7 hc_5
  refine lv_dup hx hb dX36_copy_3 rfl ?_
  refine mm_callI (As := []) (rest := [.ref q_2]) ⟨hx, hb, hml, hown, hts⟩ hE hST hA (c_X36_init l Z hc_5) (cwI (maxL := 1) 0 hts (lw_meth q1924) rfl rfl rfl (hts _ q109) (hts _ q1954) (hts _ q1923) rfl (by decide +kernel) ⟨(Nat.le_of_ble_eq_true rfl), (Nat.le_of_ble_eq_true rfl)⟩) hM hS rfl hl.1 (Nat.le_of_ble_eq_true rfl) dX36_copy_4 rfl ⟨(Nat.le_of_ble_eq_true rfl), (Nat.le_of_ble_eq_true rfl)⟩ (fun _ _ _ _ _ _ h9 => h9.elim) (fun v_9 M_10 H locs hp_11 hM hS => ?_)
  obtain ⟨q8, nq8, rfl, eM_10⟩ := hp_11
  rw [eM_10] at hM
  have ne_12 : a ≠ q8 := (mm_neN hc_6 nq8)
  have ne_13 : q ≠ q8 := (mm_neN hc_7 nq8)
  have ne_14 : q_2 ≠ q8 := (mm_neN hc_5 nq8)
  have nn_15 := (mm_U_none (eM_8 ▸ nq8)).2
  have hc_16 : (mm_U M_8 q8 (.inl (Z.2.1 6, 10, .inr (.inr (.inr (.inr (fun _ => none))))))) q8 = some (.inl (Z.2.1 6, 10, .inr (.inr (.inr (.inr (fun _ => none)))))) := mm_U_eq
  have hc_17 : (mm_U M_8 q8 (.inl (Z.2.1 6, 10, .inr (.inr (.inr (.inr (fun _ => none))))))) a = some (.inr (30, [.ref q])) := (mm_U_ne ne_12).trans hc_6
  have hc_18 : (mm_U M_8 q8 (.inl (Z.2.1 6, 10, .inr (.inr (.inr (.inr (fun _ => none))))))) q = some (.inl (Z.2.1 6, 10, .inr (.inr (.inr (.inr f))))) := (mm_U_ne ne_13).trans hc_7
  have hc_19 : (mm_U M_8 q8 (.inl (Z.2.1 6, 10, .inr (.inr (.inr (.inr (fun _ => none))))))) q_2 = some (.inr (30, [.null])) := (mm_U_ne ne_14).trans hc_5
  obtain ⟨M_20, eM_20⟩ : ∃ z, z = mm_U M_8 q8 (.inl (Z.2.1 6, 10, .inr (.inr (.inr (.inr (fun _ => none)))))) := ⟨_, rfl⟩
  rw [← eM_20] at hM hc_17 hc_18 hc_19 hc_16
  have hc_21 : (mm_U M_20 q_2 (.inr (30, [.ref q8]))) q_2 = some (.inr (30, [.ref q8])) := mm_U_eq
  have hc_22 : (mm_U M_20 q_2 (.inr (30, [.ref q8]))) a = some (.inr (30, [.ref q])) := (mm_U_ne ne_3).trans hc_17
  have hc_23 : (mm_U M_20 q_2 (.inr (30, [.ref q8]))) q = some (.inl (Z.2.1 6, 10, .inr (.inr (.inr (.inr f))))) := (mm_U_ne ne_4).trans hc_18
  have hc_24 : (mm_U M_20 q_2 (.inr (30, [.ref q8]))) q8 = some (.inl (Z.2.1 6, 10, .inr (.inr (.inr (.inr (fun _ => none)))))) := (mm_U_ne (Ne.symm ne_14)).trans hc_16
  obtain ⟨M_25, eM_25⟩ : ∃ z, z = mm_U M_20 q_2 (.inr (30, [.ref q8])) := ⟨_, rfl⟩
  rw [← eM_25] at hM hc_22 hc_23 hc_21 hc_24
  refine lv_astore_n hx hb dX36_copy_7 rfl hl (by decide) rfl (fun ls hl => ?_)
  replace hl : lv_has ls 2 [(1, .ref q_2), (0, .ref a)] := hl
  refine lv_aload_n hx hb dX36_copy_8 rfl (lv_at hl 1 rfl) ?_
  refine va_get (D := Z.1) (ci := 30) (v := .ref q) (C := RX36) (T := TX36) (N := 1) hx hb hts in_X36 hown hE.1 (hM.at hc_22) 0 rfl mm_cX36 0 (by decide) (hts _ q1928) (fun _ h9 => h9) rfl dX36_copy_9 ?_
  refine lv_iconst (v := 0) hx hb dX36_copy_12 (by decide) ?_
  refine lv_aload_n hx hb dX36_copy_13 rfl (lv_at hl 0 rfl) ?_
  refine va_get (D := Z.1) (ci := 30) (v := .ref q8) (C := RX36) (T := TX36) (N := 1) hx hb hts in_X36 hown hE.1 (hM.at hc_21) 0 rfl mm_cX36 0 (by decide) (hts _ q1928) (fun _ h9 => h9) rfl dX36_copy_14 ?_
  refine lv_iconst (v := 0) hx hb dX36_copy_17 (by decide) ?_
  refine lv_bipush (v := 10) hx hb dX36_copy_18 (by decide) ?_
  have hext9 : mm_Ext M M_25 := fun z hz => by subst eM_25 eM_20 eM_8; simp only [mm_U]; (repeat' split) <;> simp_all
  refine mm_copyV (kS := 0) (kD := 0) (kN := 10) hx hb (hml.trans hl.1.symm) hown (hts _ q1955) (hts _ q431) (hts _ q430) (hts _ q64) hE hM hS hc_23 hc_24 (by decide) (by decide) (by decide) (by decide) (by decide) (by decide) (by decide) (fun i hi y hy => by rw [Nat.zero_add] at hy; obtain ⟨ci, fs, h1, h2⟩ := hf9 i y hi hy; exact ⟨ci, fs, hext9.at h1, h2⟩) (Nat.le_of_ble_eq_true rfl) (Nat.le_of_ble_eq_true rfl) dX36_copy_20 (fun H locs hM hS => ?_)
  have hM : mm_P Z.1 mm_cl A (mm_U M_25 q8 (.inl (Z.2.1 6, 10, .inr (.inr (.inr (.inr (va_cpy f (fun _ => none) 0 0 10))))))) H := hM
  have hc_26 : (mm_U M_25 q8 (.inl (Z.2.1 6, 10, .inr (.inr (.inr (.inr (va_cpy f (fun _ => none) 0 0 10))))))) q8 = some (.inl (Z.2.1 6, 10, .inr (.inr (.inr (.inr (va_cpy f (fun _ => none) 0 0 10)))))) := mm_U_eq
  have hc_27 : (mm_U M_25 q8 (.inl (Z.2.1 6, 10, .inr (.inr (.inr (.inr (va_cpy f (fun _ => none) 0 0 10))))))) a = some (.inr (30, [.ref q])) := (mm_U_ne ne_12).trans hc_22
  have hc_28 : (mm_U M_25 q8 (.inl (Z.2.1 6, 10, .inr (.inr (.inr (.inr (va_cpy f (fun _ => none) 0 0 10))))))) q = some (.inl (Z.2.1 6, 10, .inr (.inr (.inr (.inr f))))) := (mm_U_ne ne_13).trans hc_23
  have hc_29 : (mm_U M_25 q8 (.inl (Z.2.1 6, 10, .inr (.inr (.inr (.inr (va_cpy f (fun _ => none) 0 0 10))))))) q_2 = some (.inr (30, [.ref q8])) := (mm_U_ne ne_14).trans hc_21
  obtain ⟨M_30, eM_30⟩ : ∃ z, z = mm_U M_25 q8 (.inl (Z.2.1 6, 10, .inr (.inr (.inr (.inr (va_cpy f (fun _ => none) 0 0 10)))))) := ⟨_, rfl⟩
  rw [← eM_30] at hM hc_27 hc_28 hc_29 hc_26
  skip
  refine lv_aload_n hx hb dX36_copy_23 rfl (lv_at hl 0 rfl) ?_
  exact mm_reta hx hb hr (Or.inl ⟨_, rfl⟩) (Or.inr ⟨_, rfl⟩) hlk hM hS ⟨q_2, q8, va_cpy f (fun _ => none) 0 0 10, nq_1, nn_15, ne_14, rfl, fun i hi => by simp [va_cpy, hi], by subst eM_30 eM_25 eM_20 eM_8; funext z9; simp only [mm_U]; (repeat' split) <;> simp_all⟩ dX36_copy_24 (Nat.le_of_ble_eq_true rfl) (Nat.le_of_ble_eq_true rfl)
