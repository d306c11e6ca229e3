/-! ===== the component's terms ===== -/
set_option maxRecDepth 100000
section MCUT
variable {p : Program} {l : Launch} {e : Env} {R : Room} {s : State} {m : MethodId} {args : Array Value} {below : List Frame} {meth : Method} {c : Code} {H : Heap} {locs : List Loc} {cells slots : Nat} {Q : State → Prop}
variable {cc : ByteArray} {pc : Nat} {ls : Array Slot} {rest : List Value} {A : Nat → Prop} {a : Nat} {M : mm_M} {H0 : Heap} {Z : mm_G}
/-- several ways come together -/
theorem mm_cutW {g : JFrame} {v0 : Int32} {pc2 : Nat} (k : (∀ (H : Heap) (locs : List Loc) (v : Int32), mm_P Z.1 mm_cl A M H → va_S A H0 H locs → v = v0 → W p l e R s m args below meth c H locs cells slots Q (F0 m pc2 ls (.int v :: rest))) → W p l e R s m args below meth c H locs cells slots Q g)
    (main : ∀ (H : Heap) (locs : List Loc), mm_P Z.1 mm_cl A M H → va_S A H0 H locs → W p l e R s m args below meth c H locs cells slots Q (F0 m pc2 ls (.int v0 :: rest))) (_hM : mm_P Z.1 mm_cl A M H) (_hS : va_S A H0 H locs) : W p l e R s m args below meth c H locs cells slots Q g :=
  k (fun H locs v hM hS hv => by rw [hv]; exact main H locs hM hS)
/-- aastore of a thing of just the array's class -/
theorem mm_aastT (hexec : p.tables.exec = Jvm.exec) (hb : c.code = cc) (hE : mm_E Z s) (hM : mm_P Z.1 mm_cl A M H) (hS : va_S A H0 H locs) (t0 ci : Nat) {cA : ClassId} {r : vw_C} {n v : Nat} {vs : List Value} {f : Nat → Option Nat} (ha : M a = some (.inl (cA, n, .inr (.inr (.inr (.inr f)))))) (ht : (mm_tys Z)[t0]? = some (cA, .object r.1)) (hv : M v = some (.inr (ci, vs))) (hc : mm_cl[ci]? = some r) {i : Int32} {k : Nat} (hi : i = nI k) (hk : k < n) (hn : n < 2 ^ 31) (hdg : decode cc pc = .ok (.aastore, 1))
    (kk : ∀ (H1 : Heap) (locs1 : List Loc), mm_P Z.1 mm_cl A (mm_U M a (.inl (cA, n, .inr (.inr (.inr (.inr (va_up f k (some v)))))))) H1 → va_S A H0 H1 locs1 → W p l e R s m args below meth c H1 locs1 cells slots Q (F0 m (pc + 1) ls rest)) : W p l e R s m args below meth c H locs cells slots Q (F0 m pc ls (.ref v :: .int i :: .ref a :: rest)) := by
  obtain ⟨h1, h2⟩ := mm_ix hi hk hn
  refine mm_astq hexec hb hE.1 hM hS t0 ci ha ht hv hc h1 hdg ?_
  rw [h2]
  exact kk
end MCUT
/-- array classes of different things are different -/
theorem mm_tyne {Z : mm_G} {s : State} (hE : mm_E Z s) {i j : Nat} {C1 C2 : String} {c1 c2 : ClassId} (h1 : (mm_tys Z)[i]? = some (c1, .object C1)) (h2 : (mm_tys Z)[j]? = some (c2, .object C2)) (h : C1 ≠ C2) : c1 ≠ c2 := by
  intro h9
  obtain ⟨k1, p1, a1, b1, -, -⟩ := (hE.1.2 i _ h1).2
  obtain ⟨k2, p2, a2, b2, -, -⟩ := (hE.1.2 j _ h2).2
  subst h9
  cases Option.some.inj (a1.symm.trans a2)
  have h3 := b1.symm.trans b2
  injection h3 with _ h4
  injection h4 with h5
  exact h h5
/-- a term: kind, which, name, its parts, its weight -/
abbrev pt_R : Type := Int32 × Int32 × Int32 × List Nat × Nat
abbrev ct_E (k : Nat) (r : pt_R) (q : Nat) (f : Option Nat) : va_E := .inr (2, [.int (nI k), .int r.1, .int r.2.1, .int r.2.2.1, .ref q, .int (nI r.2.2.2.2), va_rf f])
abbrev ct_A (Z : mm_G) (n : Nat) (g : Nat → Option Nat) : va_E := .inl (Z.2.1 4, n, .inr (.inr (.inr (.inr g))))
/-- the terms at ad are T; what was found for them is F -/
def ct_T (Z : mm_G) (M : mm_M) (ad : List Nat) (F : Nat → Option Nat) (T : List pt_R) : Prop := (ad.length = T.length ∧ ∀ k : Nat, T.length ≤ k → F k = none) ∧ ∀ (k : Nat) (r : pt_R), T[k]? = some r → (r.2.2.2.2 ≤ 30 ∧ r.2.2.2.1.length ≤ 3) ∧ ∃ (a q : Nat) (g : Nat → Option Nat), ad[k]? = some a ∧ M a = some (ct_E k r q (F k)) ∧ M q = some (ct_A Z r.2.2.2.1.length g) ∧ ∀ (i j : Nat), r.2.2.2.1[i]? = some j → j < k ∧ ∃ b, ad[j]? = some b ∧ g i = some b
/-- the component: its list of terms in place -/
def co_T (Z : mm_G) (M : mm_M) (o : Nat) (er st : Int32) (rs : Option Nat) (tl ar cap : Nat) (ad : List Nat) (F : Nat → Option Nat) (T : List pt_R) : Prop := M o = some (.inr (0, [.ref tl, .int er, .int st, va_rf rs])) ∧ AL Z M tl ar cap (ad.map some) ∧ cap ≤ 200 ∧ ct_T Z M ad F T
def mm_Ext (M M' : mm_M) : Prop := ∀ q : Nat, M q ≠ none → M' q = M q
theorem mm_Ext.rf (M : mm_M) : mm_Ext M M := fun _ _ => rfl
theorem mm_Ext.U {M : mm_M} {a : Nat} {e : va_E} (h : M a = none) : mm_Ext M (mm_U M a e) := fun q hq => mm_U_ne (fun h9 => hq (h9 ▸ h))
theorem mm_Ext.trans {M N O : mm_M} (h1 : mm_Ext M N) (h2 : mm_Ext N O) : mm_Ext M O := fun q hq => by rw [h2 q (by rw [h1 q hq]; exact hq), h1 q hq]
theorem mm_Ext.at {M M' : mm_M} {a : Nat} {e : va_E} (h : mm_Ext M M') (ha : M a = some e) : M' a = some e := by rw [h a (by rw [ha]; exact fun h9 => by cases h9)]; exact ha

set_option maxHeartbeats 4000000 in
set_option maxRecDepth 100000 in
theorem c_X1_limited (l : Launch) (Z : mm_G) {M : mm_M} (htr : l.stackTraces = false) {i lo hi : Int32} : mm_C l Z yX1_limited (ws_ yX1_limited cX1_limited 3 none) { frames := 8, cells := 1, slots := 6, locals := 120 } [.int i, .int lo, .int hi] M (fun v M' => (lo ≤ i ∧ i ≤ hi) ∧ v = none ∧ M' = M) (fun E _ M' => ¬ (lo ≤ i ∧ i ≤ hi) ∧ E = "java/lang/IllegalArgumentException" ∧ M' = M) := by
  refine mm_ofW (cc := cX1_limited) (maxL := 3) (ret := none) (by decide) rfl (Nat.le_of_ble_eq_true rfl) ?_
  intro p e s m below meth c A ls hx hb hr hlk hml hown hmn hts htab hE hST hA hM hS hl
  replace hl : lv_has ls 3 [(0, .int i), (1, .int lo), (2, .int hi)] := hl
  refine lv_iload_n hx hb dX1_limited_0 rfl (lv_at hl 0 rfl) ?_
  refine lv_iload_n hx hb dX1_limited_1 rfl (lv_at hl 1 rfl) ?_
  refine lv_icmp_lt (tgt := 10) hx hb dX1_limited_2 (by decide) (fun c_1 => ?_) (fun c_1 => ?_)
  · have e9 : ¬ (lo ≤ i ∧ i ≤ hi) := fun h => absurd c_1 (Int32.not_lt.2 h.1)
    have hg9 : ∀ w ∈ (vx_at0 "RowenTongue" 258 "java/lang/IllegalArgumentException" ["java/lang/RuntimeException", "java/lang/Exception"]).filter goodWord, w ∈ lw_all := lw_in _ [55, 223, 232, 241, 244, 246, 224, 225, 127, 128, 226, 231, 242, 259, 213, 260, 215, 261, 217, 227, 229, 219, 248, 249, 250, 251, 251, 252, 253, 254, 254, 255, 256, 224, 247, 202, 210, 211, 212, 214, 216, 218, 222, 221, 220] (by decide +kernel) (by decide +kernel)
    have hb9 : ∀ w ∈ (vx_at0 "RowenTongue" 258 "java/lang/IllegalArgumentException" ["java/lang/RuntimeException", "java/lang/Exception"]).filter (fun w => !goodWord w), w ∈ lw_tbl ∧ mm_NWk w = true ∧ w.onTables = true := by
      rw [show (vx_at0 "RowenTongue" 258 "java/lang/IllegalArgumentException" ["java/lang/RuntimeException", "java/lang/Exception"]).filter (fun w => !goodWord w) = [Cond.declares ⟨"java/lang/RuntimeException", "<init>", "()V"⟩, Cond.declares ⟨"java/lang/Exception", "<init>", "()V"⟩, Cond.declares ⟨"java/lang/Throwable", "<init>", "()V"⟩, Cond.castable "java/lang/IllegalArgumentException" "java/lang/IllegalArgumentException"] from by decide +kernel]
      intro w hw; simp only [List.mem_cons, List.not_mem_nil, or_false] at hw
      rcases hw with rfl | rfl | rfl | rfl
      · exact ⟨q204, rfl, rfl⟩
      · exact ⟨q206, rfl, rfl⟩
      · exact ⟨q208, rfl, rfl⟩
      · exact ⟨q203, rfl, rfl⟩
    exact mm_throw0 (names := ["java/lang/RuntimeException", "java/lang/Exception"]) hx hb htr hown (by decide +kernel) (hts _ q201) (hts _ q58) (mm_hat hts hE hg9 hb9) (by decide +kernel) hST hM hS (hl.1.trans hml.symm) dX1_limited_10 dX1_limited_13 dX1_limited_14 dX1_limited_17 htab hlk (Nat.le_of_ble_eq_true rfl) (Nat.le_of_ble_eq_true rfl) (Nat.le_of_ble_eq_true rfl) (Nat.le_of_ble_eq_true rfl) ⟨e9, rfl, rfl⟩ (Nat.le_of_ble_eq_true rfl) (Nat.le_of_ble_eq_true rfl)
  · skip
    refine lv_iload_n hx hb dX1_limited_5 rfl (lv_at hl 0 rfl) ?_
    refine lv_iload_n hx hb dX1_limited_6 rfl (lv_at hl 2 rfl) ?_
    refine lv_icmp_le (tgt := 18) hx hb dX1_limited_7 (by decide) (fun c_2 => ?_) (fun c_2 => ?_)
    · skip
      exact mm_retv hx hb hr hlk hM hS ⟨⟨Int32.not_lt.1 c_1, c_2⟩, rfl, rfl⟩ dX1_limited_18 (Nat.le_of_ble_eq_true rfl) (Nat.le_of_ble_eq_true rfl)
    · have e9 : ¬ (lo ≤ i ∧ i ≤ hi) := fun h => c_2 h.2
      have hg9 : ∀ w ∈ (vx_at0 "RowenTongue" 258 "java/lang/IllegalArgumentException" ["java/lang/RuntimeException", "java/lang/Exception"]).filter goodWord, w ∈ lw_all := lw_in _ [55, 223, 232, 241, 244, 246, 224, 225, 127, 128, 226, 231, 242, 259, 213, 260, 215, 261, 217, 227, 229, 219, 248, 249, 250, 251, 251, 252, 253, 254, 254, 255, 256, 224, 247, 202, 210, 211, 212, 214, 216, 218, 222, 221, 220] (by decide +kernel) (by decide +kernel)
      have hb9 : ∀ w ∈ (vx_at0 "RowenTongue" 258 "java/lang/IllegalArgumentException" ["java/lang/RuntimeException", "java/lang/Exception"]).filter (fun w => !goodWord w), w ∈ lw_tbl ∧ mm_NWk w = true ∧ w.onTables = true := by
        rw [show (vx_at0 "RowenTongue" 258 "java/lang/IllegalArgumentException" ["java/lang/RuntimeException", "java/lang/Exception"]).filter (fun w => !goodWord w) = [Cond.declares ⟨"java/lang/RuntimeException", "<init>", "()V"⟩, Cond.declares ⟨"java/lang/Exception", "<init>", "()V"⟩, Cond.declares ⟨"java/lang/Throwable", "<init>", "()V"⟩, Cond.castable "java/lang/IllegalArgumentException" "java/lang/IllegalArgumentException"] from by decide +kernel]
        intro w hw; simp only [List.mem_cons, List.not_mem_nil, or_false] at hw
        rcases hw with rfl | rfl | rfl | rfl
        · exact ⟨q204, rfl, rfl⟩
        · exact ⟨q206, rfl, rfl⟩
        · exact ⟨q208, rfl, rfl⟩
        · exact ⟨q203, rfl, rfl⟩
      exact mm_throw0 (names := ["java/lang/RuntimeException", "java/lang/Exception"]) hx hb htr hown (by decide +kernel) (hts _ q201) (hts _ q58) (mm_hat hts hE hg9 hb9) (by decide +kernel) hST hM hS (hl.1.trans hml.symm) dX1_limited_10 dX1_limited_13 dX1_limited_14 dX1_limited_17 htab hlk (Nat.le_of_ble_eq_true rfl) (Nat.le_of_ble_eq_true rfl) (Nat.le_of_ble_eq_true rfl) (Nat.le_of_ble_eq_true rfl) ⟨e9, rfl, rfl⟩ (Nat.le_of_ble_eq_true rfl) (Nat.le_of_ble_eq_true rfl)
set_option maxHeartbeats 4000000 in
set_option maxRecDepth 100000 in
theorem c_X3_isCases (l : Launch) (Z : mm_G) {M : mm_M} {a k q : Nat} {r : pt_R} {f : Option Nat} (ha9 : M a = some (ct_E k r q f)) : mm_C l Z yX3_isCases (ws_ yX3_isCases cX3_isCases 1 (some .boolean)) { frames := 0, cells := 0, slots := 0, locals := 0 } [.ref a] M (fun v M' => v = some (.int (mm_b (decide (15 ≤ r.1)))) ∧ M' = M) mm_nx := by
  refine mm_ofW (cc := cX3_isCases) (maxL := 1) (ret := (some .boolean)) (by decide) rfl (Nat.le_of_ble_eq_true rfl) ?_
  intro p e s m below meth c A ls hx hb hr hlk hml hown hmn hts htab hE hST hA hM hS hl
  replace hl : lv_has ls 1 [(0, .ref a)] := hl
  refine lv_aload_n hx hb dX3_isCases_0 rfl (lv_at hl 0 rfl) ?_
  refine va_get (D := Z.1) (ci := 2) (v := .int r.1) (C := RX3) (T := TX3) (N := 7) hx hb hts in_X3 hown hE.1 (hM.at ha9) 0 rfl mm_cX3 1 (by decide) (hts _ q284) (fun _ h9 => h9) rfl dX3_isCases_1 ?_
  refine lv_bipush (v := 15) hx hb dX3_isCases_4 (by decide) ?_
  refine lv_icmp_lt (tgt := 13) hx hb dX3_isCases_6 (by decide) (fun c_1 => ?_) (fun c_1 => ?_)
  · have e9 : decide (15 ≤ r.1) = false := decide_eq_false (Int32.not_le.2 c_1)
    refine lv_iconst (v := 0) hx hb dX3_isCases_13 (by decide) ?_
    exact mm_retz hx hb hr rfl hlk hM hS ⟨by rw [e9]; rfl, rfl⟩ dX3_isCases_14 (Nat.le_of_ble_eq_true rfl) (Nat.le_of_ble_eq_true rfl)
  · have e9 : decide (15 ≤ r.1) = true := decide_eq_true (Int32.not_lt.1 c_1)
    refine lv_iconst (v := 1) hx hb dX3_isCases_9 (by decide) ?_
    refine lv_goto (tgt := 14) hx hb dX3_isCases_10 (by decide) ?_
    exact mm_retz hx hb hr rfl hlk hM hS ⟨by rw [e9]; rfl, rfl⟩ dX3_isCases_14 (Nat.le_of_ble_eq_true rfl) (Nat.le_of_ble_eq_true rfl)
set_option maxHeartbeats 4000000 in
set_option maxRecDepth 100000 in
theorem c_X3_init_0 (l : Launch) (Z : mm_G) {M : mm_M} {a q : Nat} {g : Nat → Option Nat} {kn kd wh nm : Int32} (ha9 : M a = some (.inr (2, [.int 0, .int 0, .int 0, .int 0, .null, .int 0, .null]))) (hq9 : M q = some (ct_A Z 0 g)) : mm_C l Z yX3_init (ws_ yX3_init cX3_init 11 none) { frames := 1, cells := 0, slots := 0, locals := 40 } [.ref a, .int kn, .int kd, .int wh, .int nm, .ref q] M (fun v M' => v = none ∧ M' = mm_U M a (.inr (2, [.int kn, .int kd, .int wh, .int nm, .ref q, .int (nI (1)), .null]))) mm_nx := by
  refine mm_ofW (cc := cX3_init) (maxL := 11) (ret := none) (by decide) rfl (Nat.le_of_ble_eq_true rfl) ?_
  intro p e s m below meth c A ls hx hb hr hlk hml hown hmn hts htab hE hST hA hM hS hl
  replace hl : lv_has ls 11 [(0, .ref a), (1, .int kn), (2, .int kd), (3, .int wh), (4, .int nm), (5, .ref q)] := hl
  refine lv_aload_n hx hb dX3_init_0 rfl (lv_at hl 0 rfl) ?_
  refine W.objInit hx hb hown (hts _ q280) (hts _ q127) (hts _ q128) rfl (by rw [hml]; exact hl.1) rfl dX3_init_1 (Nat.le_of_ble_eq_true rfl) (Nat.le_of_ble_eq_true rfl) ?_
  refine W.eq (g2 := F0 m 4 ls []) rfl ?_
  refine lv_aload_n hx hb dX3_init_4 rfl (lv_at hl 0 rfl) ?_
  refine lv_iload_n hx hb dX3_init_5 rfl (lv_at hl 1 rfl) ?_
  refine mm_putF (D := Z.1) (ci := 2) (v := .int kn) (ty := .int) (C := RX3) (T := TX3) (N := 7) hx hb hts in_X3 tyX3 tyX3_ok nmX3 hown hE.1 hM hS ha9 mm_cX3 0 (by decide) (hts _ q281) (fun _ h9 => h9) rfl hmn rfl (by decide +kernel) rfl rfl (Nat.le_of_ble_eq_true rfl) dX3_init_6 (fun H locs hM hS => ?_)
  have hM : mm_P Z.1 mm_cl A (mm_U M a (.inr (2, [.int kn, .int 0, .int 0, .int 0, .null, .int 0, .null]))) H := hM
  have hc_1 : (mm_U M a (.inr (2, [.int kn, .int 0, .int 0, .int 0, .null, .int 0, .null]))) a = some (.inr (2, [.int kn, .int 0, .int 0, .int 0, .null, .int 0, .null])) := mm_U_eq
  have hc_2 : (mm_U M a (.inr (2, [.int kn, .int 0, .int 0, .int 0, .null, .int 0, .null]))) q = some (.inl (Z.2.1 4, 0, .inr (.inr (.inr (.inr g))))) := (mm_U_ne (mm_neA hq9 ha9)).trans hq9
  obtain ⟨M_3, eM_3⟩ : ∃ z, z = mm_U M a (.inr (2, [.int kn, .int 0, .int 0, .int 0, .null, .int 0, .null])) := ⟨_, rfl⟩
  rw [← eM_3] at hM hc_1 hc_2
  refine lv_aload_n hx hb dX3_init_9 rfl (lv_at hl 0 rfl) ?_
  refine lv_iload_n hx hb dX3_init_10 rfl (lv_at hl 2 rfl) ?_
  refine mm_putF (D := Z.1) (ci := 2) (v := .int kd) (ty := .int) (C := RX3) (T := TX3) (N := 7) hx hb hts in_X3 tyX3 tyX3_ok nmX3 hown hE.1 hM hS hc_1 mm_cX3 1 (by decide) (hts _ q284) (fun _ h9 => h9) rfl hmn rfl (by decide +kernel) rfl rfl (Nat.le_of_ble_eq_true rfl) dX3_init_11 (fun H locs hM hS => ?_)
  have hM : mm_P Z.1 mm_cl A (mm_U M_3 a (.inr (2, [.int kn, .int kd, .int 0, .int 0, .null, .int 0, .null]))) H := hM
  have hc_4 : (mm_U M_3 a (.inr (2, [.int kn, .int kd, .int 0, .int 0, .null, .int 0, .null]))) a = some (.inr (2, [.int kn, .int kd, .int 0, .int 0, .null, .int 0, .null])) := mm_U_eq
  have hc_5 : (mm_U M_3 a (.inr (2, [.int kn, .int kd, .int 0, .int 0, .null, .int 0, .null]))) q = some (.inl (Z.2.1 4, 0, .inr (.inr (.inr (.inr g))))) := (mm_U_ne (mm_neA hc_2 hc_1)).trans hc_2
  obtain ⟨M_6, eM_6⟩ : ∃ z, z = mm_U M_3 a (.inr (2, [.int kn, .int kd, .int 0, .int 0, .null, .int 0, .null])) := ⟨_, rfl⟩
  rw [← eM_6] at hM hc_4 hc_5
  refine lv_aload_n hx hb dX3_init_14 rfl (lv_at hl 0 rfl) ?_
  refine lv_iload_n hx hb dX3_init_15 rfl (lv_at hl 3 rfl) ?_
  refine mm_putF (D := Z.1) (ci := 2) (v := .int wh) (ty := .int) (C := RX3) (T := TX3) (N := 7) hx hb hts in_X3 tyX3 tyX3_ok nmX3 hown hE.1 hM hS hc_4 mm_cX3 2 (by decide) (hts _ q288) (fun _ h9 => h9) rfl hmn rfl (by decide +kernel) rfl rfl (Nat.le_of_ble_eq_true rfl) dX3_init_16 (fun H locs hM hS => ?_)
  have hM : mm_P Z.1 mm_cl A (mm_U M_6 a (.inr (2, [.int kn, .int kd, .int wh, .int 0, .null, .int 0, .null]))) H := hM
  have hc_7 : (mm_U M_6 a (.inr (2, [.int kn, .int kd, .int wh, .int 0, .null, .int 0, .null]))) a = some (.inr (2, [.int kn, .int kd, .int wh, .int 0, .null, .int 0, .null])) := mm_U_eq
  have hc_8 : (mm_U M_6 a (.inr (2, [.int kn, .int kd, .int wh, .int 0, .null, .int 0, .null]))) q = some (.inl (Z.2.1 4, 0, .inr (.inr (.inr (.inr g))))) := (mm_U_ne (mm_neA hc_5 hc_4)).trans hc_5
  obtain ⟨M_9, eM_9⟩ : ∃ z, z = mm_U M_6 a (.inr (2, [.int kn, .int kd, .int wh, .int 0, .null, .int 0, .null])) := ⟨_, rfl⟩
  rw [← eM_9] at hM hc_7 hc_8
  refine lv_aload_n hx hb dX3_init_19 rfl (lv_at hl 0 rfl) ?_
  refine lv_iload hx hb dX3_init_20 (lv_at hl 4 rfl) ?_
  refine mm_putF (D := Z.1) (ci := 2) (v := .int nm) (ty := .int) (C := RX3) (T := TX3) (N := 7) hx hb hts in_X3 tyX3 tyX3_ok nmX3 hown hE.1 hM hS hc_7 mm_cX3 3 (by decide) (hts _ q291) (fun _ h9 => h9) rfl hmn rfl (by decide +kernel) rfl rfl (Nat.le_of_ble_eq_true rfl) dX3_init_22 (fun H locs hM hS => ?_)
  have hM : mm_P Z.1 mm_cl A (mm_U M_9 a (.inr (2, [.int kn, .int kd, .int wh, .int nm, .null, .int 0, .null]))) H := hM
  have hc_10 : (mm_U M_9 a (.inr (2, [.int kn, .int kd, .int wh, .int nm, .null, .int 0, .null]))) a = some (.inr (2, [.int kn, .int kd, .int wh, .int nm, .null, .int 0, .null])) := mm_U_eq
  have hc_11 : (mm_U M_9 a (.inr (2, [.int kn, .int kd, .int wh, .int nm, .null, .int 0, .null]))) q = some (.inl (Z.2.1 4, 0, .inr (.inr (.inr (.inr g))))) := (mm_U_ne (mm_neA hc_8 hc_7)).trans hc_8
  obtain ⟨M_12, eM_12⟩ : ∃ z, z = mm_U M_9 a (.inr (2, [.int kn, .int kd, .int wh, .int nm, .null, .int 0, .null])) := ⟨_, rfl⟩
  rw [← eM_12] at hM hc_10 hc_11
  refine lv_aload_n hx hb dX3_init_25 rfl (lv_at hl 0 rfl) ?_
  refine lv_aload hx hb dX3_init_26 (lv_at hl 5 rfl) ?_
  refine mm_putF (D := Z.1) (ci := 2) (v := .ref q) (ty := .array (.object "RowenTongue$Term")) (C := RX3) (T := TX3) (N := 7) hx hb hts in_X3 tyX3 tyX3_ok nmX3 hown hE.1 hM hS hc_10 mm_cX3 4 (by decide) (hts _ q294) (fun _ h9 => h9) rfl hmn rfl (by decide +kernel) rfl rfl (Nat.le_of_ble_eq_true rfl) dX3_init_28 (fun H locs hM hS => ?_)
  have hM : mm_P Z.1 mm_cl A (mm_U M_12 a (.inr (2, [.int kn, .int kd, .int wh, .int nm, .ref q, .int 0, .null]))) H := hM
  have hc_13 : (mm_U M_12 a (.inr (2, [.int kn, .int kd, .int wh, .int nm, .ref q, .int 0, .null]))) a = some (.inr (2, [.int kn, .int kd, .int wh, .int nm, .ref q, .int 0, .null])) := mm_U_eq
  have hc_14 : (mm_U M_12 a (.inr (2, [.int kn, .int kd, .int wh, .int nm, .ref q, .int 0, .null]))) q = some (.inl (Z.2.1 4, 0, .inr (.inr (.inr (.inr g))))) := (mm_U_ne (mm_neA hc_11 hc_10)).trans hc_11
  obtain ⟨M_15, eM_15⟩ : ∃ z, z = mm_U M_12 a (.inr (2, [.int kn, .int kd, .int wh, .int nm, .ref q, .int 0, .null])) := ⟨_, rfl⟩
  rw [← eM_15] at hM hc_13 hc_14
  refine lv_iconst (v := 1) hx hb dX3_init_31 (by decide) ?_
  refine lv_istore hx hb dX3_init_32 hl (by decide) rfl (fun ls hl => ?_)
  replace hl : lv_has ls 11 [(6, .int 1), (0, .ref a), (1, .int kn), (2, .int kd), (3, .int wh), (4, .int nm), (5, .ref q)] := hl
  refine lv_aload hx hb dX3_init_34 (lv_at hl 6 rfl) ?_
  refine lv_astore hx hb dX3_init_36 hl (by decide) rfl (fun ls hl => ?_)
  replace hl : lv_has ls 11 [(7, .ref q), (6, .int 1), (0, .ref a), (1, .int kn), (2, .int kd), (3, .int wh), (4, .int nm), (5, .ref q)] := hl
  refine lv_aload hx hb dX3_init_38 (lv_at hl 0 rfl) ?_
  refine mm_alen hx hb hE hM 4 hc_14 rfl dX3_init_40 ?_
  rw [show (nI 0 : Int32) = 0 from by decide]
  refine lv_istore hx hb dX3_init_41 hl (by decide) rfl (fun ls hl => ?_)
  replace hl : lv_has ls 11 [(8, .int 0), (7, .ref q), (6, .int 1), (0, .ref a), (1, .int kn), (2, .int kd), (3, .int wh), (4, .int nm), (5, .ref q)] := hl
  refine lv_iconst (v := 0) hx hb dX3_init_43 (by decide) ?_
  refine lv_istore hx hb dX3_init_44 hl (by decide) rfl (fun ls hl => ?_)
  replace hl : lv_has ls 11 [(9, .int 0), (8, .int 0), (7, .ref q), (6, .int 1), (0, .ref a), (1, .int kn), (2, .int kd), (3, .int wh), (4, .int nm), (5, .ref q)] := hl
  refine lv_iload hx hb dX3_init_46 (lv_at hl 0 rfl) ?_
  refine lv_iload hx hb dX3_init_48 (lv_at hl 1 rfl) ?_
  refine lv_icmp_ge (tgt := 76) hx hb dX3_init_50 (by decide) (fun _ => ?_) (fun h9 => absurd (by decide) h9)
  refine lv_aload_n hx hb dX3_init_76 rfl (lv_at hl 4 rfl) ?_
  refine lv_iload hx hb dX3_init_77 (lv_at hl 3 rfl) ?_
  rw [show (1 : Int32) = nI (1) from by decide]
  refine mm_putF (D := Z.1) (ci := 2) (v := .int (nI (1))) (ty := .int) (C := RX3) (T := TX3) (N := 7) hx hb hts in_X3 tyX3 tyX3_ok nmX3 hown hE.1 hM hS hc_13 mm_cX3 5 (by decide) (hts _ q298) (fun _ h9 => h9) rfl hmn rfl (by decide +kernel) rfl rfl (Nat.le_of_ble_eq_true rfl) dX3_init_79 (fun H locs hM hS => ?_)
  have hM : mm_P Z.1 mm_cl A (mm_U M_15 a (.inr (2, [.int kn, .int kd, .int wh, .int nm, .ref q, .int (nI (1)), .null]))) H := hM
  have hc_16 : (mm_U M_15 a (.inr (2, [.int kn, .int kd, .int wh, .int nm, .ref q, .int (nI (1)), .null]))) a = some (.inr (2, [.int kn, .int kd, .int wh, .int nm, .ref q, .int (nI (1)), .null])) := mm_U_eq
  have hc_17 : (mm_U M_15 a (.inr (2, [.int kn, .int kd, .int wh, .int nm, .ref q, .int (nI (1)), .null]))) q = some (.inl (Z.2.1 4, 0, .inr (.inr (.inr (.inr g))))) := (mm_U_ne (mm_neA hc_14 hc_13)).trans hc_14
  obtain ⟨M_18, eM_18⟩ : ∃ z, z = mm_U M_15 a (.inr (2, [.int kn, .int kd, .int wh, .int nm, .ref q, .int (nI (1)), .null])) := ⟨_, rfl⟩
  rw [← eM_18] at hM hc_16 hc_17
  exact mm_retv hx hb hr hlk hM hS ⟨rfl, by subst eM_18 eM_15 eM_12 eM_9 eM_6 eM_3; simp only [mm_U_U]⟩ dX3_init_82 (Nat.le_of_ble_eq_true rfl) (Nat.le_of_ble_eq_true rfl)
set_option maxHeartbeats 4000000 in
set_option maxRecDepth 100000 in
theorem c_X3_init_1 (l : Launch) (Z : mm_G) {M : mm_M} {a q : Nat} {g : Nat → Option Nat} {kn kd wh nm : Int32} (ha9 : M a = some (.inr (2, [.int 0, .int 0, .int 0, .int 0, .null, .int 0, .null]))) (hq9 : M q = some (ct_A Z 1 g)) {b0 k0 q0 : Nat} {r0 : pt_R} {f0 : Option Nat} (hg0 : g 0 = some b0) (hb0 : M b0 = some (ct_E k0 r0 q0 f0)) (hn0 : b0 ≠ a) : mm_C l Z yX3_init (ws_ yX3_init cX3_init 11 none) { frames := 1, cells := 0, slots := 0, locals := 40 } [.ref a, .int kn, .int kd, .int wh, .int nm, .ref q] M (fun v M' => v = none ∧ M' = mm_U M a (.inr (2, [.int kn, .int kd, .int wh, .int nm, .ref q, .int (nI (1 + r0.2.2.2.2)), .null]))) mm_nx := by
  refine mm_ofW (cc := cX3_init) (maxL := 11) (ret := none) (by decide) rfl (Nat.le_of_ble_eq_true rfl) ?_
  intro p e s m below meth c A ls hx hb hr hlk hml hown hmn hts htab hE hST hA hM hS hl
  replace hl : lv_has ls 11 [(0, .ref a), (1, .int kn), (2, .int kd), (3, .int wh), (4, .int nm), (5, .ref q)] := hl
  refine lv_aload_n hx hb dX3_init_0 rfl (lv_at hl 0 rfl) ?_
  refine W.objInit hx hb hown (hts _ q280) (hts _ q127) (hts _ q128) rfl (by rw [hml]; exact hl.1) rfl dX3_init_1 (Nat.le_of_ble_eq_true rfl) (Nat.le_of_ble_eq_true rfl) ?_
  refine W.eq (g2 := F0 m 4 ls []) rfl ?_
  refine lv_aload_n hx hb dX3_init_4 rfl (lv_at hl 0 rfl) ?_
  refine lv_iload_n hx hb dX3_init_5 rfl (lv_at hl 1 rfl) ?_
  refine mm_putF (D := Z.1) (ci := 2) (v := .int kn) (ty := .int) (C := RX3) (T := TX3) (N := 7) hx hb hts in_X3 tyX3 tyX3_ok nmX3 hown hE.1 hM hS ha9 mm_cX3 0 (by decide) (hts _ q281) (fun _ h9 => h9) rfl hmn rfl (by decide +kernel) rfl rfl (Nat.le_of_ble_eq_true rfl) dX3_init_6 (fun H locs hM hS => ?_)
  have hM : mm_P Z.1 mm_cl A (mm_U M a (.inr (2, [.int kn, .int 0, .int 0, .int 0, .null, .int 0, .null]))) H := hM
  have hc_1 : (mm_U M a (.inr (2, [.int kn, .int 0, .int 0, .int 0, .null, .int 0, .null]))) a = some (.inr (2, [.int kn, .int 0, .int 0, .int 0, .null, .int 0, .null])) := mm_U_eq
  have hc_2 : (mm_U M a (.inr (2, [.int kn, .int 0, .int 0, .int 0, .null, .int 0, .null]))) q = some (.inl (Z.2.1 4, 1, .inr (.inr (.inr (.inr g))))) := (mm_U_ne (mm_neA hq9 ha9)).trans hq9
  have hc_3 : (mm_U M a (.inr (2, [.int kn, .int 0, .int 0, .int 0, .null, .int 0, .null]))) b0 = some (.inr (2, [.int (nI k0), .int r0.1, .int r0.2.1, .int r0.2.2.1, .ref q0, .int (nI r0.2.2.2.2), va_rf f0])) := (mm_U_ne hn0).trans hb0
  obtain ⟨M_4, eM_4⟩ : ∃ z, z = mm_U M a (.inr (2, [.int kn, .int 0, .int 0, .int 0, .null, .int 0, .null])) := ⟨_, rfl⟩
  rw [← eM_4] at hM hc_1 hc_2 hc_3
  refine lv_aload_n hx hb dX3_init_9 rfl (lv_at hl 0 rfl) ?_
  refine lv_iload_n hx hb dX3_init_10 rfl (lv_at hl 2 rfl) ?_
  refine mm_putF (D := Z.1) (ci := 2) (v := .int kd) (ty := .int) (C := RX3) (T := TX3) (N := 7) hx hb hts in_X3 tyX3 tyX3_ok nmX3 hown hE.1 hM hS hc_1 mm_cX3 1 (by decide) (hts _ q284) (fun _ h9 => h9) rfl hmn rfl (by decide +kernel) rfl rfl (Nat.le_of_ble_eq_true rfl) dX3_init_11 (fun H locs hM hS => ?_)
  have hM : mm_P Z.1 mm_cl A (mm_U M_4 a (.inr (2, [.int kn, .int kd, .int 0, .int 0, .null, .int 0, .null]))) H := hM
  have hc_5 : (mm_U M_4 a (.inr (2, [.int kn, .int kd, .int 0, .int 0, .null, .int 0, .null]))) a = some (.inr (2, [.int kn, .int kd, .int 0, .int 0, .null, .int 0, .null])) := mm_U_eq
  have hc_6 : (mm_U M_4 a (.inr (2, [.int kn, .int kd, .int 0, .int 0, .null, .int 0, .null]))) q = some (.inl (Z.2.1 4, 1, .inr (.inr (.inr (.inr g))))) := (mm_U_ne (mm_neA hc_2 hc_1)).trans hc_2
  have hc_7 : (mm_U M_4 a (.inr (2, [.int kn, .int kd, .int 0, .int 0, .null, .int 0, .null]))) b0 = some (.inr (2, [.int (nI k0), .int r0.1, .int r0.2.1, .int r0.2.2.1, .ref q0, .int (nI r0.2.2.2.2), va_rf f0])) := (mm_U_ne hn0).trans hc_3
  obtain ⟨M_8, eM_8⟩ : ∃ z, z = mm_U M_4 a (.inr (2, [.int kn, .int kd, .int 0, .int 0, .null, .int 0, .null])) := ⟨_, rfl⟩
  rw [← eM_8] at hM hc_5 hc_6 hc_7
  refine lv_aload_n hx hb dX3_init_14 rfl (lv_at hl 0 rfl) ?_
  refine lv_iload_n hx hb dX3_init_15 rfl (lv_at hl 3 rfl) ?_
  refine mm_putF (D := Z.1) (ci := 2) (v := .int wh) (ty := .int) (C := RX3) (T := TX3) (N := 7) hx hb hts in_X3 tyX3 tyX3_ok nmX3 hown hE.1 hM hS hc_5 mm_cX3 2 (by decide) (hts _ q288) (fun _ h9 => h9) rfl hmn rfl (by decide +kernel) rfl rfl (Nat.le_of_ble_eq_true rfl) dX3_init_16 (fun H locs hM hS => ?_)
  have hM : mm_P Z.1 mm_cl A (mm_U M_8 a (.inr (2, [.int kn, .int kd, .int wh, .int 0, .null, .int 0, .null]))) H := hM
  have hc_9 : (mm_U M_8 a (.inr (2, [.int kn, .int kd, .int wh, .int 0, .null, .int 0, .null]))) a = some (.inr (2, [.int kn, .int kd, .int wh, .int 0, .null, .int 0, .null])) := mm_U_eq
  have hc_10 : (mm_U M_8 a (.inr (2, [.int kn, .int kd, .int wh, .int 0, .null, .int 0, .null]))) q = some (.inl (Z.2.1 4, 1, .inr (.inr (.inr (.inr g))))) := (mm_U_ne (mm_neA hc_6 hc_5)).trans hc_6
  have hc_11 : (mm_U M_8 a (.inr (2, [.int kn, .int kd, .int wh, .int 0, .null, .int 0, .null]))) b0 = some (.inr (2, [.int (nI k0), .int r0.1, .int r0.2.1, .int r0.2.2.1, .ref q0, .int (nI r0.2.2.2.2), va_rf f0])) := (mm_U_ne hn0).trans hc_7
  obtain ⟨M_12, eM_12⟩ : ∃ z, z = mm_U M_8 a (.inr (2, [.int kn, .int kd, .int wh, .int 0, .null, .int 0, .null])) := ⟨_, rfl⟩
  rw [← eM_12] at hM hc_9 hc_10 hc_11
  refine lv_aload_n hx hb dX3_init_19 rfl (lv_at hl 0 rfl) ?_
  refine lv_iload hx hb dX3_init_20 (lv_at hl 4 rfl) ?_
  refine mm_putF (D := Z.1) (ci := 2) (v := .int nm) (ty := .int) (C := RX3) (T := TX3) (N := 7) hx hb hts in_X3 tyX3 tyX3_ok nmX3 hown hE.1 hM hS hc_9 mm_cX3 3 (by decide) (hts _ q291) (fun _ h9 => h9) rfl hmn rfl (by decide +kernel) rfl rfl (Nat.le_of_ble_eq_true rfl) dX3_init_22 (fun H locs hM hS => ?_)
  have hM : mm_P Z.1 mm_cl A (mm_U M_12 a (.inr (2, [.int kn, .int kd, .int wh, .int nm, .null, .int 0, .null]))) H := hM
  have hc_13 : (mm_U M_12 a (.inr (2, [.int kn, .int kd, .int wh, .int nm, .null, .int 0, .null]))) a = some (.inr (2, [.int kn, .int kd, .int wh, .int nm, .null, .int 0, .null])) := mm_U_eq
  have hc_14 : (mm_U M_12 a (.inr (2, [.int kn, .int kd, .int wh, .int nm, .null, .int 0, .null]))) q = some (.inl (Z.2.1 4, 1, .inr (.inr (.inr (.inr g))))) := (mm_U_ne (mm_neA hc_10 hc_9)).trans hc_10
  have hc_15 : (mm_U M_12 a (.inr (2, [.int kn, .int kd, .int wh, .int nm, .null, .int 0, .null]))) b0 = some (.inr (2, [.int (nI k0), .int r0.1, .int r0.2.1, .int r0.2.2.1, .ref q0, .int (nI r0.2.2.2.2), va_rf f0])) := (mm_U_ne hn0).trans hc_11
  obtain ⟨M_16, eM_16⟩ : ∃ z, z = mm_U M_12 a (.inr (2, [.int kn, .int kd, .int wh, .int nm, .null, .int 0, .null])) := ⟨_, rfl⟩
  rw [← eM_16] at hM hc_13 hc_14 hc_15
  refine lv_aload_n hx hb dX3_init_25 rfl (lv_at hl 0 rfl) ?_
  refine lv_aload hx hb dX3_init_26 (lv_at hl 5 rfl) ?_
  refine mm_putF (D := Z.1) (ci := 2) (v := .ref q) (ty := .array (.object "RowenTongue$Term")) (C := RX3) (T := TX3) (N := 7) hx hb hts in_X3 tyX3 tyX3_ok nmX3 hown hE.1 hM hS hc_13 mm_cX3 4 (by decide) (hts _ q294) (fun _ h9 => h9) rfl hmn rfl (by decide +kernel) rfl rfl (Nat.le_of_ble_eq_true rfl) dX3_init_28 (fun H locs hM hS => ?_)
  have hM : mm_P Z.1 mm_cl A (mm_U M_16 a (.inr (2, [.int kn, .int kd, .int wh, .int nm, .ref q, .int 0, .null]))) H := hM
  have hc_17 : (mm_U M_16 a (.inr (2, [.int kn, .int kd, .int wh, .int nm, .ref q, .int 0, .null]))) a = some (.inr (2, [.int kn, .int kd, .int wh, .int nm, .ref q, .int 0, .null])) := mm_U_eq
  have hc_18 : (mm_U M_16 a (.inr (2, [.int kn, .int kd, .int wh, .int nm, .ref q, .int 0, .null]))) q = some (.inl (Z.2.1 4, 1, .inr (.inr (.inr (.inr g))))) := (mm_U_ne (mm_neA hc_14 hc_13)).trans hc_14
  have hc_19 : (mm_U M_16 a (.inr (2, [.int kn, .int kd, .int wh, .int nm, .ref q, .int 0, .null]))) b0 = some (.inr (2, [.int (nI k0), .int r0.1, .int r0.2.1, .int r0.2.2.1, .ref q0, .int (nI r0.2.2.2.2), va_rf f0])) := (mm_U_ne hn0).trans hc_15
  obtain ⟨M_20, eM_20⟩ : ∃ z, z = mm_U M_16 a (.inr (2, [.int kn, .int kd, .int wh, .int nm, .ref q, .int 0, .null])) := ⟨_, rfl⟩
  rw [← eM_20] at hM hc_17 hc_18 hc_19
  refine lv_iconst (v := 1) hx hb dX3_init_31 (by decide) ?_
  refine lv_istore hx hb dX3_init_32 hl (by decide) rfl (fun ls hl => ?_)
  replace hl : lv_has ls 11 [(6, .int 1), (0, .ref a), (1, .int kn), (2, .int kd), (3, .int wh), (4, .int nm), (5, .ref q)] := hl
  refine lv_aload hx hb dX3_init_34 (lv_at hl 6 rfl) ?_
  refine lv_astore hx hb dX3_init_36 hl (by decide) rfl (fun ls hl => ?_)
  replace hl : lv_has ls 11 [(7, .ref q), (6, .int 1), (0, .ref a), (1, .int kn), (2, .int kd), (3, .int wh), (4, .int nm), (5, .ref q)] := hl
  refine lv_aload hx hb dX3_init_38 (lv_at hl 0 rfl) ?_
  refine mm_alen hx hb hE hM 4 hc_18 rfl dX3_init_40 ?_
  rw [show (nI 1 : Int32) = 1 from by decide]
  refine lv_istore hx hb dX3_init_41 hl (by decide) rfl (fun ls hl => ?_)
  replace hl : lv_has ls 11 [(8, .int 1), (7, .ref q), (6, .int 1), (0, .ref a), (1, .int kn), (2, .int kd), (3, .int wh), (4, .int nm), (5, .ref q)] := hl
  refine lv_iconst (v := 0) hx hb dX3_init_43 (by decide) ?_
  refine lv_istore hx hb dX3_init_44 hl (by decide) rfl (fun ls hl => ?_)
  replace hl : lv_has ls 11 [(9, .int 0), (8, .int 1), (7, .ref q), (6, .int 1), (0, .ref a), (1, .int kn), (2, .int kd), (3, .int wh), (4, .int nm), (5, .ref q)] := hl
  refine lv_iload hx hb dX3_init_46 (lv_at hl 0 rfl) ?_
  refine lv_iload hx hb dX3_init_48 (lv_at hl 1 rfl) ?_
  refine lv_icmp_ge (tgt := 76) hx hb dX3_init_50 (by decide) (fun h9 => absurd h9 (by decide)) (fun _ => ?_)
  refine lv_aload hx hb dX3_init_53 (lv_at hl 2 rfl) ?_
  refine lv_iload hx hb dX3_init_55 (lv_at hl 0 rfl) ?_
  refine mm_aald (k := 0) hx hb hE hM 4 hc_18 rfl (by decide) (by decide) (by decide) dX3_init_57 ?_
  rw [hg0]
  refine lv_astore hx hb dX3_init_58 hl (by decide) rfl (fun ls hl => ?_)
  replace hl : lv_has ls 11 [(10, .ref b0), (9, .int 0), (8, .int 1), (7, .ref q), (6, .int 1), (0, .ref a), (1, .int kn), (2, .int kd), (3, .int wh), (4, .int nm), (5, .ref q)] := hl
  refine lv_iload hx hb dX3_init_60 (lv_at hl 4 rfl) ?_
  refine lv_aload hx hb dX3_init_62 (lv_at hl 0 rfl) ?_
  refine va_get (D := Z.1) (ci := 2) (v := .int (nI r0.2.2.2.2)) (C := RX3) (T := TX3) (N := 7) hx hb hts in_X3 hown hE.1 (hM.at hc_19) 0 rfl mm_cX3 5 (by decide) (hts _ q298) (fun _ h9 => h9) rfl dX3_init_64 ?_
  refine lv_iadd hx hb dX3_init_67 ?_
  rw [show (1 + (nI r0.2.2.2.2) : Int32) = nI (1 + r0.2.2.2.2) from by rw [show (1 : Int32) = nI 1 from by decide, nI_add]]
  refine lv_istore hx hb dX3_init_68 hl (by decide) rfl (fun ls hl => ?_)
  replace hl : lv_has ls 11 [(6, .int (nI (1 + r0.2.2.2.2))), (10, .ref b0), (9, .int 0), (8, .int 1), (7, .ref q), (0, .ref a), (1, .int kn), (2, .int kd), (3, .int wh), (4, .int nm), (5, .ref q)] := hl
  refine lv_iinc (v := 1) (lv' := [(9, .int 1), (6, .int (nI (1 + r0.2.2.2.2))), (10, .ref b0), (8, .int 1), (7, .ref q), (0, .ref a), (1, .int kn), (2, .int kd), (3, .int wh), (4, .int nm), (5, .ref q)]) hx hb dX3_init_70 hl (k := 2) rfl (by decide) (by decide) rfl (fun ls hl => ?_)
  refine lv_goto (tgt := 46) hx hb dX3_init_73 (by decide) ?_
  refine lv_iload hx hb dX3_init_46 (lv_at hl 0 rfl) ?_
  refine lv_iload hx hb dX3_init_48 (lv_at hl 3 rfl) ?_
  refine lv_icmp_ge (tgt := 76) hx hb dX3_init_50 (by decide) (fun _ => ?_) (fun h9 => absurd (by decide) h9)
  refine lv_aload_n hx hb dX3_init_76 rfl (lv_at hl 5 rfl) ?_
  refine lv_iload hx hb dX3_init_77 (lv_at hl 1 rfl) ?_
  refine mm_putF (D := Z.1) (ci := 2) (v := .int (nI (1 + r0.2.2.2.2))) (ty := .int) (C := RX3) (T := TX3) (N := 7) hx hb hts in_X3 tyX3 tyX3_ok nmX3 hown hE.1 hM hS hc_17 mm_cX3 5 (by decide) (hts _ q298) (fun _ h9 => h9) rfl hmn rfl (by decide +kernel) rfl rfl (Nat.le_of_ble_eq_true rfl) dX3_init_79 (fun H locs hM hS => ?_)
  have hM : mm_P Z.1 mm_cl A (mm_U M_20 a (.inr (2, [.int kn, .int kd, .int wh, .int nm, .ref q, .int (nI (1 + r0.2.2.2.2)), .null]))) H := hM
  have hc_21 : (mm_U M_20 a (.inr (2, [.int kn, .int kd, .int wh, .int nm, .ref q, .int (nI (1 + r0.2.2.2.2)), .null]))) a = some (.inr (2, [.int kn, .int kd, .int wh, .int nm, .ref q, .int (nI (1 + r0.2.2.2.2)), .null])) := mm_U_eq
  have hc_22 : (mm_U M_20 a (.inr (2, [.int kn, .int kd, .int wh, .int nm, .ref q, .int (nI (1 + r0.2.2.2.2)), .null]))) q = some (.inl (Z.2.1 4, 1, .inr (.inr (.inr (.inr g))))) := (mm_U_ne (mm_neA hc_18 hc_17)).trans hc_18
  have hc_23 : (mm_U M_20 a (.inr (2, [.int kn, .int kd, .int wh, .int nm, .ref q, .int (nI (1 + r0.2.2.2.2)), .null]))) b0 = some (.inr (2, [.int (nI k0), .int r0.1, .int r0.2.1, .int r0.2.2.1, .ref q0, .int (nI r0.2.2.2.2), va_rf f0])) := (mm_U_ne hn0).trans hc_19
  obtain ⟨M_24, eM_24⟩ : ∃ z, z = mm_U M_20 a (.inr (2, [.int kn, .int kd, .int wh, .int nm, .ref q, .int (nI (1 + r0.2.2.2.2)), .null])) := ⟨_, rfl⟩
  rw [← eM_24] at hM hc_21 hc_22 hc_23
  exact mm_retv hx hb hr hlk hM hS ⟨rfl, by subst eM_24 eM_20 eM_16 eM_12 eM_8 eM_4; simp only [mm_U_U]⟩ dX3_init_82 (Nat.le_of_ble_eq_true rfl) (Nat.le_of_ble_eq_true rfl)
set_option maxHeartbeats 4000000 in
set_option maxRecDepth 100000 in
theorem c_X3_init_2 (l : Launch) (Z : mm_G) {M : mm_M} {a q : Nat} {g : Nat → Option Nat} {kn kd wh nm : Int32} (ha9 : M a = some (.inr (2, [.int 0, .int 0, .int 0, .int 0, .null, .int 0, .null]))) (hq9 : M q = some (ct_A Z 2 g)) {b0 k0 q0 : Nat} {r0 : pt_R} {f0 : Option Nat} (hg0 : g 0 = some b0) (hb0 : M b0 = some (ct_E k0 r0 q0 f0)) (hn0 : b0 ≠ a) {b1 k1 q1 : Nat} {r1 : pt_R} {f1 : Option Nat} (hg1 : g 1 = some b1) (hb1 : M b1 = some (ct_E k1 r1 q1 f1)) (hn1 : b1 ≠ a) : mm_C l Z yX3_init (ws_ yX3_init cX3_init 11 none) { frames := 1, cells := 0, slots := 0, locals := 40 } [.ref a, .int kn, .int kd, .int wh, .int nm, .ref q] M (fun v M' => v = none ∧ M' = mm_U M a (.inr (2, [.int kn, .int kd, .int wh, .int nm, .ref q, .int (nI (1 + r0.2.2.2.2 + r1.2.2.2.2)), .null]))) mm_nx := by
  refine mm_ofW (cc := cX3_init) (maxL := 11) (ret := none) (by decide) rfl (Nat.le_of_ble_eq_true rfl) ?_
  intro p e s m below meth c A ls hx hb hr hlk hml hown hmn hts htab hE hST hA hM hS hl
  replace hl : lv_has ls 11 [(0, .ref a), (1, .int kn), (2, .int kd), (3, .int wh), (4, .int nm), (5, .ref q)] := hl
  refine lv_aload_n hx hb dX3_init_0 rfl (lv_at hl 0 rfl) ?_
  refine W.objInit hx hb hown (hts _ q280) (hts _ q127) (hts _ q128) rfl (by rw [hml]; exact hl.1) rfl dX3_init_1 (Nat.le_of_ble_eq_true rfl) (Nat.le_of_ble_eq_true rfl) ?_
  refine W.eq (g2 := F0 m 4 ls []) rfl ?_
  refine lv_aload_n hx hb dX3_init_4 rfl (lv_at hl 0 rfl) ?_
  refine lv_iload_n hx hb dX3_init_5 rfl (lv_at hl 1 rfl) ?_
  refine mm_putF (D := Z.1) (ci := 2) (v := .int kn) (ty := .int) (C := RX3) (T := TX3) (N := 7) hx hb hts in_X3 tyX3 tyX3_ok nmX3 hown hE.1 hM hS ha9 mm_cX3 0 (by decide) (hts _ q281) (fun _ h9 => h9) rfl hmn rfl (by decide +kernel) rfl rfl (Nat.le_of_ble_eq_true rfl) dX3_init_6 (fun H locs hM hS => ?_)
  have hM : mm_P Z.1 mm_cl A (mm_U M a (.inr (2, [.int kn, .int 0, .int 0, .int 0, .null, .int 0, .null]))) H := hM
  have hc_1 : (mm_U M a (.inr (2, [.int kn, .int 0, .int 0, .int 0, .null, .int 0, .null]))) a = some (.inr (2, [.int kn, .int 0, .int 0, .int 0, .null, .int 0, .null])) := mm_U_eq
  have hc_2 : (mm_U M a (.inr (2, [.int kn, .int 0, .int 0, .int 0, .null, .int 0, .null]))) q = some (.inl (Z.2.1 4, 2, .inr (.inr (.inr (.inr g))))) := (mm_U_ne (mm_neA hq9 ha9)).trans hq9
  have hc_3 : (mm_U M a (.inr (2, [.int kn, .int 0, .int 0, .int 0, .null, .int 0, .null]))) b0 = some (.inr (2, [.int (nI k0), .int r0.1, .int r0.2.1, .int r0.2.2.1, .ref q0, .int (nI r0.2.2.2.2), va_rf f0])) := (mm_U_ne hn0).trans hb0
  have hc_4 : (mm_U M a (.inr (2, [.int kn, .int 0, .int 0, .int 0, .null, .int 0, .null]))) b1 = some (.inr (2, [.int (nI k1), .int r1.1, .int r1.2.1, .int r1.2.2.1, .ref q1, .int (nI r1.2.2.2.2), va_rf f1])) := (mm_U_ne hn1).trans hb1
  obtain ⟨M_5, eM_5⟩ : ∃ z, z = mm_U M a (.inr (2, [.int kn, .int 0, .int 0, .int 0, .null, .int 0, .null])) := ⟨_, rfl⟩
  rw [← eM_5] at hM hc_1 hc_2 hc_3 hc_4
  refine lv_aload_n hx hb dX3_init_9 rfl (lv_at hl 0 rfl) ?_
  refine lv_iload_n hx hb dX3_init_10 rfl (lv_at hl 2 rfl) ?_
  refine mm_putF (D := Z.1) (ci := 2) (v := .int kd) (ty := .int) (C := RX3) (T := TX3) (N := 7) hx hb hts in_X3 tyX3 tyX3_ok nmX3 hown hE.1 hM hS hc_1 mm_cX3 1 (by decide) (hts _ q284) (fun _ h9 => h9) rfl hmn rfl (by decide +kernel) rfl rfl (Nat.le_of_ble_eq_true rfl) dX3_init_11 (fun H locs hM hS => ?_)
  have hM : mm_P Z.1 mm_cl A (mm_U M_5 a (.inr (2, [.int kn, .int kd, .int 0, .int 0, .null, .int 0, .null]))) H := hM
  have hc_6 : (mm_U M_5 a (.inr (2, [.int kn, .int kd, .int 0, .int 0, .null, .int 0, .null]))) a = some (.inr (2, [.int kn, .int kd, .int 0, .int 0, .null, .int 0, .null])) := mm_U_eq
  have hc_7 : (mm_U M_5 a (.inr (2, [.int kn, .int kd, .int 0, .int 0, .null, .int 0, .null]))) q = some (.inl (Z.2.1 4, 2, .inr (.inr (.inr (.inr g))))) := (mm_U_ne (mm_neA hc_2 hc_1)).trans hc_2
  have hc_8 : (mm_U M_5 a (.inr (2, [.int kn, .int kd, .int 0, .int 0, .null, .int 0, .null]))) b0 = some (.inr (2, [.int (nI k0), .int r0.1, .int r0.2.1, .int r0.2.2.1, .ref q0, .int (nI r0.2.2.2.2), va_rf f0])) := (mm_U_ne hn0).trans hc_3
  have hc_9 : (mm_U M_5 a (.inr (2, [.int kn, .int kd, .int 0, .int 0, .null, .int 0, .null]))) b1 = some (.inr (2, [.int (nI k1), .int r1.1, .int r1.2.1, .int r1.2.2.1, .ref q1, .int (nI r1.2.2.2.2), va_rf f1])) := (mm_U_ne hn1).trans hc_4
  obtain ⟨M_10, eM_10⟩ : ∃ z, z = mm_U M_5 a (.inr (2, [.int kn, .int kd, .int 0, .int 0, .null, .int 0, .null])) := ⟨_, rfl⟩
  rw [← eM_10] at hM hc_6 hc_7 hc_8 hc_9
  refine lv_aload_n hx hb dX3_init_14 rfl (lv_at hl 0 rfl) ?_
  refine lv_iload_n hx hb dX3_init_15 rfl (lv_at hl 3 rfl) ?_
  refine mm_putF (D := Z.1) (ci := 2) (v := .int wh) (ty := .int) (C := RX3) (T := TX3) (N := 7) hx hb hts in_X3 tyX3 tyX3_ok nmX3 hown hE.1 hM hS hc_6 mm_cX3 2 (by decide) (hts _ q288) (fun _ h9 => h9) rfl hmn rfl (by decide +kernel) rfl rfl (Nat.le_of_ble_eq_true rfl) dX3_init_16 (fun H locs hM hS => ?_)
  have hM : mm_P Z.1 mm_cl A (mm_U M_10 a (.inr (2, [.int kn, .int kd, .int wh, .int 0, .null, .int 0, .null]))) H := hM
  have hc_11 : (mm_U M_10 a (.inr (2, [.int kn, .int kd, .int wh, .int 0, .null, .int 0, .null]))) a = some (.inr (2, [.int kn, .int kd, .int wh, .int 0, .null, .int 0, .null])) := mm_U_eq
  have hc_12 : (mm_U M_10 a (.inr (2, [.int kn, .int kd, .int wh, .int 0, .null, .int 0, .null]))) q = some (.inl (Z.2.1 4, 2, .inr (.inr (.inr (.inr g))))) := (mm_U_ne (mm_neA hc_7 hc_6)).trans hc_7
  have hc_13 : (mm_U M_10 a (.inr (2, [.int kn, .int kd, .int wh, .int 0, .null, .int 0, .null]))) b0 = some (.inr (2, [.int (nI k0), .int r0.1, .int r0.2.1, .int r0.2.2.1, .ref q0, .int (nI r0.2.2.2.2), va_rf f0])) := (mm_U_ne hn0).trans hc_8
  have hc_14 : (mm_U M_10 a (.inr (2, [.int kn, .int kd, .int wh, .int 0, .null, .int 0, .null]))) b1 = some (.inr (2, [.int (nI k1), .int r1.1, .int r1.2.1, .int r1.2.2.1, .ref q1, .int (nI r1.2.2.2.2), va_rf f1])) := (mm_U_ne hn1).trans hc_9
  obtain ⟨M_15, eM_15⟩ : ∃ z, z = mm_U M_10 a (.inr (2, [.int kn, .int kd, .int wh, .int 0, .null, .int 0, .null])) := ⟨_, rfl⟩
  rw [← eM_15] at hM hc_11 hc_12 hc_13 hc_14
  refine lv_aload_n hx hb dX3_init_19 rfl (lv_at hl 0 rfl) ?_
  refine lv_iload hx hb dX3_init_20 (lv_at hl 4 rfl) ?_
  refine mm_putF (D := Z.1) (ci := 2) (v := .int nm) (ty := .int) (C := RX3) (T := TX3) (N := 7) hx hb hts in_X3 tyX3 tyX3_ok nmX3 hown hE.1 hM hS hc_11 mm_cX3 3 (by decide) (hts _ q291) (fun _ h9 => h9) rfl hmn rfl (by decide +kernel) rfl rfl (Nat.le_of_ble_eq_true rfl) dX3_init_22 (fun H locs hM hS => ?_)
  have hM : mm_P Z.1 mm_cl A (mm_U M_15 a (.inr (2, [.int kn, .int kd, .int wh, .int nm, .null, .int 0, .null]))) H := hM
  have hc_16 : (mm_U M_15 a (.inr (2, [.int kn, .int kd, .int wh, .int nm, .null, .int 0, .null]))) a = some (.inr (2, [.int kn, .int kd, .int wh, .int nm, .null, .int 0, .null])) := mm_U_eq
  have hc_17 : (mm_U M_15 a (.inr (2, [.int kn, .int kd, .int wh, .int nm, .null, .int 0, .null]))) q = some (.inl (Z.2.1 4, 2, .inr (.inr (.inr (.inr g))))) := (mm_U_ne (mm_neA hc_12 hc_11)).trans hc_12
  have hc_18 : (mm_U M_15 a (.inr (2, [.int kn, .int kd, .int wh, .int nm, .null, .int 0, .null]))) b0 = some (.inr (2, [.int (nI k0), .int r0.1, .int r0.2.1, .int r0.2.2.1, .ref q0, .int (nI r0.2.2.2.2), va_rf f0])) := (mm_U_ne hn0).trans hc_13
  have hc_19 : (mm_U M_15 a (.inr (2, [.int kn, .int kd, .int wh, .int nm, .null, .int 0, .null]))) b1 = some (.inr (2, [.int (nI k1), .int r1.1, .int r1.2.1, .int r1.2.2.1, .ref q1, .int (nI r1.2.2.2.2), va_rf f1])) := (mm_U_ne hn1).trans hc_14
  obtain ⟨M_20, eM_20⟩ : ∃ z, z = mm_U M_15 a (.inr (2, [.int kn, .int kd, .int wh, .int nm, .null, .int 0, .null])) := ⟨_, rfl⟩
  rw [← eM_20] at hM hc_16 hc_17 hc_18 hc_19
  refine lv_aload_n hx hb dX3_init_25 rfl (lv_at hl 0 rfl) ?_
  refine lv_aload hx hb dX3_init_26 (lv_at hl 5 rfl) ?_
  refine mm_putF (D := Z.1) (ci := 2) (v := .ref q) (ty := .array (.object "RowenTongue$Term")) (C := RX3) (T := TX3) (N := 7) hx hb hts in_X3 tyX3 tyX3_ok nmX3 hown hE.1 hM hS hc_16 mm_cX3 4 (by decide) (hts _ q294) (fun _ h9 => h9) rfl hmn rfl (by decide +kernel) rfl rfl (Nat.le_of_ble_eq_true rfl) dX3_init_28 (fun H locs hM hS => ?_)
  have hM : mm_P Z.1 mm_cl A (mm_U M_20 a (.inr (2, [.int kn, .int kd, .int wh, .int nm, .ref q, .int 0, .null]))) H := hM
  have hc_21 : (mm_U M_20 a (.inr (2, [.int kn, .int kd, .int wh, .int nm, .ref q, .int 0, .null]))) a = some (.inr (2, [.int kn, .int kd, .int wh, .int nm, .ref q, .int 0, .null])) := mm_U_eq
  have hc_22 : (mm_U M_20 a (.inr (2, [.int kn, .int kd, .int wh, .int nm, .ref q, .int 0, .null]))) q = some (.inl (Z.2.1 4, 2, .inr (.inr (.inr (.inr g))))) := (mm_U_ne (mm_neA hc_17 hc_16)).trans hc_17
  have hc_23 : (mm_U M_20 a (.inr (2, [.int kn, .int kd, .int wh, .int nm, .ref q, .int 0, .null]))) b0 = some (.inr (2, [.int (nI k0), .int r0.1, .int r0.2.1, .int r0.2.2.1, .ref q0, .int (nI r0.2.2.2.2), va_rf f0])) := (mm_U_ne hn0).trans hc_18
  have hc_24 : (mm_U M_20 a (.inr (2, [.int kn, .int kd, .int wh, .int nm, .ref q, .int 0, .null]))) b1 = some (.inr (2, [.int (nI k1), .int r1.1, .int r1.2.1, .int r1.2.2.1, .ref q1, .int (nI r1.2.2.2.2), va_rf f1])) := (mm_U_ne hn1).trans hc_19
  obtain ⟨M_25, eM_25⟩ : ∃ z, z = mm_U M_20 a (.inr (2, [.int kn, .int kd, .int wh, .int nm, .ref q, .int 0, .null])) := ⟨_, rfl⟩
  rw [← eM_25] at hM hc_21 hc_22 hc_23 hc_24
  refine lv_iconst (v := 1) hx hb dX3_init_31 (by decide) ?_
  refine lv_istore hx hb dX3_init_32 hl (by decide) rfl (fun ls hl => ?_)
  replace hl : lv_has ls 11 [(6, .int 1), (0, .ref a), (1, .int kn), (2, .int kd), (3, .int wh), (4, .int nm), (5, .ref q)] := hl
  refine lv_aload hx hb dX3_init_34 (lv_at hl 6 rfl) ?_
  refine lv_astore hx hb dX3_init_36 hl (by decide) rfl (fun ls hl => ?_)
  replace hl : lv_has ls 11 [(7, .ref q), (6, .int 1), (0, .ref a), (1, .int kn), (2, .int kd), (3, .int wh), (4, .int nm), (5, .ref q)] := hl
  refine lv_aload hx hb dX3_init_38 (lv_at hl 0 rfl) ?_
  refine mm_alen hx hb hE hM 4 hc_22 rfl dX3_init_40 ?_
  rw [show (nI 2 : Int32) = 2 from by decide]
  refine lv_istore hx hb dX3_init_41 hl (by decide) rfl (fun ls hl => ?_)
  replace hl : lv_has ls 11 [(8, .int 2), (7, .ref q), (6, .int 1), (0, .ref a), (1, .int kn), (2, .int kd), (3, .int wh), (4, .int nm), (5, .ref q)] := hl
  refine lv_iconst (v := 0) hx hb dX3_init_43 (by decide) ?_
  refine lv_istore hx hb dX3_init_44 hl (by decide) rfl (fun ls hl => ?_)
  replace hl : lv_has ls 11 [(9, .int 0), (8, .int 2), (7, .ref q), (6, .int 1), (0, .ref a), (1, .int kn), (2, .int kd), (3, .int wh), (4, .int nm), (5, .ref q)] := hl
  refine lv_iload hx hb dX3_init_46 (lv_at hl 0 rfl) ?_
  refine lv_iload hx hb dX3_init_48 (lv_at hl 1 rfl) ?_
  refine lv_icmp_ge (tgt := 76) hx hb dX3_init_50 (by decide) (fun h9 => absurd h9 (by decide)) (fun _ => ?_)
  refine lv_aload hx hb dX3_init_53 (lv_at hl 2 rfl) ?_
  refine lv_iload hx hb dX3_init_55 (lv_at hl 0 rfl) ?_
  refine mm_aald (k := 0) hx hb hE hM 4 hc_22 rfl (by decide) (by decide) (by decide) dX3_init_57 ?_
  rw [hg0]
  refine lv_astore hx hb dX3_init_58 hl (by decide) rfl (fun ls hl => ?_)
  replace hl : lv_has ls 11 [(10, .ref b0), (9, .int 0), (8, .int 2), (7, .ref q), (6, .int 1), (0, .ref a), (1, .int kn), (2, .int kd), (3, .int wh), (4, .int nm), (5, .ref q)] := hl
  refine lv_iload hx hb dX3_init_60 (lv_at hl 4 rfl) ?_
  refine lv_aload hx hb dX3_init_62 (lv_at hl 0 rfl) ?_
  refine va_get (D := Z.1) (ci := 2) (v := .int (nI r0.2.2.2.2)) (C := RX3) (T := TX3) (N := 7) hx hb hts in_X3 hown hE.1 (hM.at hc_23) 0 rfl mm_cX3 5 (by decide) (hts _ q298) (fun _ h9 => h9) rfl dX3_init_64 ?_
  refine lv_iadd hx hb dX3_init_67 ?_
  rw [show (1 + (nI r0.2.2.2.2) : Int32) = nI (1 + r0.2.2.2.2) from by rw [show (1 : Int32) = nI 1 from by decide, nI_add]]
  refine lv_istore hx hb dX3_init_68 hl (by decide) rfl (fun ls hl => ?_)
  replace hl : lv_has ls 11 [(6, .int (nI (1 + r0.2.2.2.2))), (10, .ref b0), (9, .int 0), (8, .int 2), (7, .ref q), (0, .ref a), (1, .int kn), (2, .int kd), (3, .int wh), (4, .int nm), (5, .ref q)] := hl
  refine lv_iinc (v := 1) (lv' := [(9, .int 1), (6, .int (nI (1 + r0.2.2.2.2))), (10, .ref b0), (8, .int 2), (7, .ref q), (0, .ref a), (1, .int kn), (2, .int kd), (3, .int wh), (4, .int nm), (5, .ref q)]) hx hb dX3_init_70 hl (k := 2) rfl (by decide) (by decide) rfl (fun ls hl => ?_)
  refine lv_goto (tgt := 46) hx hb dX3_init_73 (by decide) ?_
  refine lv_iload hx hb dX3_init_46 (lv_at hl 0 rfl) ?_
  refine lv_iload hx hb dX3_init_48 (lv_at hl 3 rfl) ?_
  refine lv_icmp_ge (tgt := 76) hx hb dX3_init_50 (by decide) (fun h9 => absurd h9 (by decide)) (fun _ => ?_)
  refine lv_aload hx hb dX3_init_53 (lv_at hl 4 rfl) ?_
  refine lv_iload hx hb dX3_init_55 (lv_at hl 0 rfl) ?_
  refine mm_aald (k := 1) hx hb hE hM 4 hc_22 rfl (by decide) (by decide) (by decide) dX3_init_57 ?_
  rw [hg1]
  refine lv_astore hx hb dX3_init_58 hl (by decide) rfl (fun ls hl => ?_)
  replace hl : lv_has ls 11 [(10, .ref b1), (9, .int 1), (6, .int (nI (1 + r0.2.2.2.2))), (8, .int 2), (7, .ref q), (0, .ref a), (1, .int kn), (2, .int kd), (3, .int wh), (4, .int nm), (5, .ref q)] := hl
  refine lv_iload hx hb dX3_init_60 (lv_at hl 2 rfl) ?_
  refine lv_aload hx hb dX3_init_62 (lv_at hl 0 rfl) ?_
  refine va_get (D := Z.1) (ci := 2) (v := .int (nI r1.2.2.2.2)) (C := RX3) (T := TX3) (N := 7) hx hb hts in_X3 hown hE.1 (hM.at hc_24) 0 rfl mm_cX3 5 (by decide) (hts _ q298) (fun _ h9 => h9) rfl dX3_init_64 ?_
  refine lv_iadd hx hb dX3_init_67 ?_
  rw [show ((nI (1 + r0.2.2.2.2)) + (nI r1.2.2.2.2) : Int32) = nI (1 + r0.2.2.2.2 + r1.2.2.2.2) from by rw [nI_add]]
  refine lv_istore hx hb dX3_init_68 hl (by decide) rfl (fun ls hl => ?_)
  replace hl : lv_has ls 11 [(6, .int (nI (1 + r0.2.2.2.2 + r1.2.2.2.2))), (10, .ref b1), (9, .int 1), (8, .int 2), (7, .ref q), (0, .ref a), (1, .int kn), (2, .int kd), (3, .int wh), (4, .int nm), (5, .ref q)] := hl
  refine lv_iinc (v := 2) (lv' := [(9, .int 2), (6, .int (nI (1 + r0.2.2.2.2 + r1.2.2.2.2))), (10, .ref b1), (8, .int 2), (7, .ref q), (0, .ref a), (1, .int kn), (2, .int kd), (3, .int wh), (4, .int nm), (5, .ref q)]) hx hb dX3_init_70 hl (k := 2) rfl (by decide) (by decide) rfl (fun ls hl => ?_)
  refine lv_goto (tgt := 46) hx hb dX3_init_73 (by decide) ?_
  refine lv_iload hx hb dX3_init_46 (lv_at hl 0 rfl) ?_
  refine lv_iload hx hb dX3_init_48 (lv_at hl 3 rfl) ?_
  refine lv_icmp_ge (tgt := 76) hx hb dX3_init_50 (by decide) (fun _ => ?_) (fun h9 => absurd (by decide) h9)
  refine lv_aload_n hx hb dX3_init_76 rfl (lv_at hl 5 rfl) ?_
  refine lv_iload hx hb dX3_init_77 (lv_at hl 1 rfl) ?_
  refine mm_putF (D := Z.1) (ci := 2) (v := .int (nI (1 + r0.2.2.2.2 + r1.2.2.2.2))) (ty := .int) (C := RX3) (T := TX3) (N := 7) hx hb hts in_X3 tyX3 tyX3_ok nmX3 hown hE.1 hM hS hc_21 mm_cX3 5 (by decide) (hts _ q298) (fun _ h9 => h9) rfl hmn rfl (by decide +kernel) rfl rfl (Nat.le_of_ble_eq_true rfl) dX3_init_79 (fun H locs hM hS => ?_)
  have hM : mm_P Z.1 mm_cl A (mm_U M_25 a (.inr (2, [.int kn, .int kd, .int wh, .int nm, .ref q, .int (nI (1 + r0.2.2.2.2 + r1.2.2.2.2)), .null]))) H := hM
  have hc_26 : (mm_U M_25 a (.inr (2, [.int kn, .int kd, .int wh, .int nm, .ref q, .int (nI (1 + r0.2.2.2.2 + r1.2.2.2.2)), .null]))) a = some (.inr (2, [.int kn, .int kd, .int wh, .int nm, .ref q, .int (nI (1 + r0.2.2.2.2 + r1.2.2.2.2)), .null])) := mm_U_eq
  have hc_27 : (mm_U M_25 a (.inr (2, [.int kn, .int kd, .int wh, .int nm, .ref q, .int (nI (1 + r0.2.2.2.2 + r1.2.2.2.2)), .null]))) q = some (.inl (Z.2.1 4, 2, .inr (.inr (.inr (.inr g))))) := (mm_U_ne (mm_neA hc_22 hc_21)).trans hc_22
  have hc_28 : (mm_U M_25 a (.inr (2, [.int kn, .int kd, .int wh, .int nm, .ref q, .int (nI (1 + r0.2.2.2.2 + r1.2.2.2.2)), .null]))) b0 = some (.inr (2, [.int (nI k0), .int r0.1, .int r0.2.1, .int r0.2.2.1, .ref q0, .int (nI r0.2.2.2.2), va_rf f0])) := (mm_U_ne hn0).trans hc_23
  have hc_29 : (mm_U M_25 a (.inr (2, [.int kn, .int kd, .int wh, .int nm, .ref q, .int (nI (1 + r0.2.2.2.2 + r1.2.2.2.2)), .null]))) b1 = some (.inr (2, [.int (nI k1), .int r1.1, .int r1.2.1, .int r1.2.2.1, .ref q1, .int (nI r1.2.2.2.2), va_rf f1])) := (mm_U_ne hn1).trans hc_24
  obtain ⟨M_30, eM_30⟩ : ∃ z, z = mm_U M_25 a (.inr (2, [.int kn, .int kd, .int wh, .int nm, .ref q, .int (nI (1 + r0.2.2.2.2 + r1.2.2.2.2)), .null])) := ⟨_, rfl⟩
  rw [← eM_30] at hM hc_26 hc_27 hc_28 hc_29
  exact mm_retv hx hb hr hlk hM hS ⟨rfl, by subst eM_30 eM_25 eM_20 eM_15 eM_10 eM_5; simp only [mm_U_U]⟩ dX3_init_82 (Nat.le_of_ble_eq_true rfl) (Nat.le_of_ble_eq_true rfl)
set_option maxHeartbeats 4000000 in
set_option maxRecDepth 100000 in
theorem c_X3_init_3 (l : Launch) (Z : mm_G) {M : mm_M} {a q : Nat} {g : Nat → Option Nat} {kn kd wh nm : Int32} (ha9 : M a = some (.inr (2, [.int 0, .int 0, .int 0, .int 0, .null, .int 0, .null]))) (hq9 : M q = some (ct_A Z 3 g)) {b0 k0 q0 : Nat} {r0 : pt_R} {f0 : Option Nat} (hg0 : g 0 = some b0) (hb0 : M b0 = some (ct_E k0 r0 q0 f0)) (hn0 : b0 ≠ a) {b1 k1 q1 : Nat} {r1 : pt_R} {f1 : Option Nat} (hg1 : g 1 = some b1) (hb1 : M b1 = some (ct_E k1 r1 q1 f1)) (hn1 : b1 ≠ a) {b2 k2 q2 : Nat} {r2 : pt_R} {f2 : Option Nat} (hg2 : g 2 = some b2) (hb2 : M b2 = some (ct_E k2 r2 q2 f2)) (hn2 : b2 ≠ a) : mm_C l Z yX3_init (ws_ yX3_init cX3_init 11 none) { frames := 1, cells := 0, slots := 0, locals := 40 } [.ref a, .int kn, .int kd, .int wh, .int nm, .ref q] M (fun v M' => v = none ∧ M' = mm_U M a (.inr (2, [.int kn, .int kd, .int wh, .int nm, .ref q, .int (nI (1 + r0.2.2.2.2 + r1.2.2.2.2 + r2.2.2.2.2)), .null]))) mm_nx := by
  refine mm_ofW (cc := cX3_init) (maxL := 11) (ret := none) (by decide) rfl (Nat.le_of_ble_eq_true rfl) ?_
  intro p e s m below meth c A ls hx hb hr hlk hml hown hmn hts htab hE hST hA hM hS hl
  replace hl : lv_has ls 11 [(0, .ref a), (1, .int kn), (2, .int kd), (3, .int wh), (4, .int nm), (5, .ref q)] := hl
  refine lv_aload_n hx hb dX3_init_0 rfl (lv_at hl 0 rfl) ?_
  refine W.objInit hx hb hown (hts _ q280) (hts _ q127) (hts _ q128) rfl (by rw [hml]; exact hl.1) rfl dX3_init_1 (Nat.le_of_ble_eq_true rfl) (Nat.le_of_ble_eq_true rfl) ?_
  refine W.eq (g2 := F0 m 4 ls []) rfl ?_
  refine lv_aload_n hx hb dX3_init_4 rfl (lv_at hl 0 rfl) ?_
  refine lv_iload_n hx hb dX3_init_5 rfl (lv_at hl 1 rfl) ?_
  refine mm_putF (D := Z.1) (ci := 2) (v := .int kn) (ty := .int) (C := RX3) (T := TX3) (N := 7) hx hb hts in_X3 tyX3 tyX3_ok nmX3 hown hE.1 hM hS ha9 mm_cX3 0 (by decide) (hts _ q281) (fun _ h9 => h9) rfl hmn rfl (by decide +kernel) rfl rfl (Nat.le_of_ble_eq_true rfl) dX3_init_6 (fun H locs hM hS => ?_)
  have hM : mm_P Z.1 mm_cl A (mm_U M a (.inr (2, [.int kn, .int 0, .int 0, .int 0, .null, .int 0, .null]))) H := hM
  have hc_1 : (mm_U M a (.inr (2, [.int kn, .int 0, .int 0, .int 0, .null, .int 0, .null]))) a = some (.inr (2, [.int kn, .int 0, .int 0, .int 0, .null, .int 0, .null])) := mm_U_eq
  have hc_2 : (mm_U M a (.inr (2, [.int kn, .int 0, .int 0, .int 0, .null, .int 0, .null]))) q = some (.inl (Z.2.1 4, 3, .inr (.inr (.inr (.inr g))))) := (mm_U_ne (mm_neA hq9 ha9)).trans hq9
  have hc_3 : (mm_U M a (.inr (2, [.int kn, .int 0, .int 0, .int 0, .null, .int 0, .null]))) b0 = some (.inr (2, [.int (nI k0), .int r0.1, .int r0.2.1, .int r0.2.2.1, .ref q0, .int (nI r0.2.2.2.2), va_rf f0])) := (mm_U_ne hn0).trans hb0
  have hc_4 : (mm_U M a (.inr (2, [.int kn, .int 0, .int 0, .int 0, .null, .int 0, .null]))) b1 = some (.inr (2, [.int (nI k1), .int r1.1, .int r1.2.1, .int r1.2.2.1, .ref q1, .int (nI r1.2.2.2.2), va_rf f1])) := (mm_U_ne hn1).trans hb1
  have hc_5 : (mm_U M a (.inr (2, [.int kn, .int 0, .int 0, .int 0, .null, .int 0, .null]))) b2 = some (.inr (2, [.int (nI k2), .int r2.1, .int r2.2.1, .int r2.2.2.1, .ref q2, .int (nI r2.2.2.2.2), va_rf f2])) := (mm_U_ne hn2).trans hb2
  obtain ⟨M_6, eM_6⟩ : ∃ z, z = mm_U M a (.inr (2, [.int kn, .int 0, .int 0, .int 0, .null, .int 0, .null])) := ⟨_, rfl⟩
  rw [← eM_6] at hM hc_1 hc_2 hc_3 hc_4 hc_5
  refine lv_aload_n hx hb dX3_init_9 rfl (lv_at hl 0 rfl) ?_
  refine lv_iload_n hx hb dX3_init_10 rfl (lv_at hl 2 rfl) ?_
  refine mm_putF (D := Z.1) (ci := 2) (v := .int kd) (ty := .int) (C := RX3) (T := TX3) (N := 7) hx hb hts in_X3 tyX3 tyX3_ok nmX3 hown hE.1 hM hS hc_1 mm_cX3 1 (by decide) (hts _ q284) (fun _ h9 => h9) rfl hmn rfl (by decide +kernel) rfl rfl (Nat.le_of_ble_eq_true rfl) dX3_init_11 (fun H locs hM hS => ?_)
  have hM : mm_P Z.1 mm_cl A (mm_U M_6 a (.inr (2, [.int kn, .int kd, .int 0, .int 0, .null, .int 0, .null]))) H := hM
  have hc_7 : (mm_U M_6 a (.inr (2, [.int kn, .int kd, .int 0, .int 0, .null, .int 0, .null]))) a = some (.inr (2, [.int kn, .int kd, .int 0, .int 0, .null, .int 0, .null])) := mm_U_eq
  have hc_8 : (mm_U M_6 a (.inr (2, [.int kn, .int kd, .int 0, .int 0, .null, .int 0, .null]))) q = some (.inl (Z.2.1 4, 3, .inr (.inr (.inr (.inr g))))) := (mm_U_ne (mm_neA hc_2 hc_1)).trans hc_2
  have hc_9 : (mm_U M_6 a (.inr (2, [.int kn, .int kd, .int 0, .int 0, .null, .int 0, .null]))) b0 = some (.inr (2, [.int (nI k0), .int r0.1, .int r0.2.1, .int r0.2.2.1, .ref q0, .int (nI r0.2.2.2.2), va_rf f0])) := (mm_U_ne hn0).trans hc_3
  have hc_10 : (mm_U M_6 a (.inr (2, [.int kn, .int kd, .int 0, .int 0, .null, .int 0, .null]))) b1 = some (.inr (2, [.int (nI k1), .int r1.1, .int r1.2.1, .int r1.2.2.1, .ref q1, .int (nI r1.2.2.2.2), va_rf f1])) := (mm_U_ne hn1).trans hc_4
  have hc_11 : (mm_U M_6 a (.inr (2, [.int kn, .int kd, .int 0, .int 0, .null, .int 0, .null]))) b2 = some (.inr (2, [.int (nI k2), .int r2.1, .int r2.2.1, .int r2.2.2.1, .ref q2, .int (nI r2.2.2.2.2), va_rf f2])) := (mm_U_ne hn2).trans hc_5
  obtain ⟨M_12, eM_12⟩ : ∃ z, z = mm_U M_6 a (.inr (2, [.int kn, .int kd, .int 0, .int 0, .null, .int 0, .null])) := ⟨_, rfl⟩
  rw [← eM_12] at hM hc_7 hc_8 hc_9 hc_10 hc_11
  refine lv_aload_n hx hb dX3_init_14 rfl (lv_at hl 0 rfl) ?_
  refine lv_iload_n hx hb dX3_init_15 rfl (lv_at hl 3 rfl) ?_
  refine mm_putF (D := Z.1) (ci := 2) (v := .int wh) (ty := .int) (C := RX3) (T := TX3) (N := 7) hx hb hts in_X3 tyX3 tyX3_ok nmX3 hown hE.1 hM hS hc_7 mm_cX3 2 (by decide) (hts _ q288) (fun _ h9 => h9) rfl hmn rfl (by decide +kernel) rfl rfl (Nat.le_of_ble_eq_true rfl) dX3_init_16 (fun H locs hM hS => ?_)
  have hM : mm_P Z.1 mm_cl A (mm_U M_12 a (.inr (2, [.int kn, .int kd, .int wh, .int 0, .null, .int 0, .null]))) H := hM
  have hc_13 : (mm_U M_12 a (.inr (2, [.int kn, .int kd, .int wh, .int 0, .null, .int 0, .null]))) a = some (.inr (2, [.int kn, .int kd, .int wh, .int 0, .null, .int 0, .null])) := mm_U_eq
  have hc_14 : (mm_U M_12 a (.inr (2, [.int kn, .int kd, .int wh, .int 0, .null, .int 0, .null]))) q = some (.inl (Z.2.1 4, 3, .inr (.inr (.inr (.inr g))))) := (mm_U_ne (mm_neA hc_8 hc_7)).trans hc_8
  have hc_15 : (mm_U M_12 a (.inr (2, [.int kn, .int kd, .int wh, .int 0, .null, .int 0, .null]))) b0 = some (.inr (2, [.int (nI k0), .int r0.1, .int r0.2.1, .int r0.2.2.1, .ref q0, .int (nI r0.2.2.2.2), va_rf f0])) := (mm_U_ne hn0).trans hc_9
  have hc_16 : (mm_U M_12 a (.inr (2, [.int kn, .int kd, .int wh, .int 0, .null, .int 0, .null]))) b1 = some (.inr (2, [.int (nI k1), .int r1.1, .int r1.2.1, .int r1.2.2.1, .ref q1, .int (nI r1.2.2.2.2), va_rf f1])) := (mm_U_ne hn1).trans hc_10
  have hc_17 : (mm_U M_12 a (.inr (2, [.int kn, .int kd, .int wh, .int 0, .null, .int 0, .null]))) b2 = some (.inr (2, [.int (nI k2), .int r2.1, .int r2.2.1, .int r2.2.2.1, .ref q2, .int (nI r2.2.2.2.2), va_rf f2])) := (mm_U_ne hn2).trans hc_11
  obtain ⟨M_18, eM_18⟩ : ∃ z, z = mm_U M_12 a (.inr (2, [.int kn, .int kd, .int wh, .int 0, .null, .int 0, .null])) := ⟨_, rfl⟩
  rw [← eM_18] at hM hc_13 hc_14 hc_15 hc_16 hc_17
  refine lv_aload_n hx hb dX3_init_19 rfl (lv_at hl 0 rfl) ?_
  refine lv_iload hx hb dX3_init_20 (lv_at hl 4 rfl) ?_
  refine mm_putF (D := Z.1) (ci := 2) (v := .int nm) (ty := .int) (C := RX3) (T := TX3) (N := 7) hx hb hts in_X3 tyX3 tyX3_ok nmX3 hown hE.1 hM hS hc_13 mm_cX3 3 (by decide) (hts _ q291) (fun _ h9 => h9) rfl hmn rfl (by decide +kernel) rfl rfl (Nat.le_of_ble_eq_true rfl) dX3_init_22 (fun H locs hM hS => ?_)
  have hM : mm_P Z.1 mm_cl A (mm_U M_18 a (.inr (2, [.int kn, .int kd, .int wh, .int nm, .null, .int 0, .null]))) H := hM
  have hc_19 : (mm_U M_18 a (.inr (2, [.int kn, .int kd, .int wh, .int nm, .null, .int 0, .null]))) a = some (.inr (2, [.int kn, .int kd, .int wh, .int nm, .null, .int 0, .null])) := mm_U_eq
  have hc_20 : (mm_U M_18 a (.inr (2, [.int kn, .int kd, .int wh, .int nm, .null, .int 0, .null]))) q = some (.inl (Z.2.1 4, 3, .inr (.inr (.inr (.inr g))))) := (mm_U_ne (mm_neA hc_14 hc_13)).trans hc_14
  have hc_21 : (mm_U M_18 a (.inr (2, [.int kn, .int kd, .int wh, .int nm, .null, .int 0, .null]))) b0 = some (.inr (2, [.int (nI k0), .int r0.1, .int r0.2.1, .int r0.2.2.1, .ref q0, .int (nI r0.2.2.2.2), va_rf f0])) := (mm_U_ne hn0).trans hc_15
  have hc_22 : (mm_U M_18 a (.inr (2, [.int kn, .int kd, .int wh, .int nm, .null, .int 0, .null]))) b1 = some (.inr (2, [.int (nI k1), .int r1.1, .int r1.2.1, .int r1.2.2.1, .ref q1, .int (nI r1.2.2.2.2), va_rf f1])) := (mm_U_ne hn1).trans hc_16
  have hc_23 : (mm_U M_18 a (.inr (2, [.int kn, .int kd, .int wh, .int nm, .null, .int 0, .null]))) b2 = some (.inr (2, [.int (nI k2), .int r2.1, .int r2.2.1, .int r2.2.2.1, .ref q2, .int (nI r2.2.2.2.2), va_rf f2])) := (mm_U_ne hn2).trans hc_17
  obtain ⟨M_24, eM_24⟩ : ∃ z, z = mm_U M_18 a (.inr (2, [.int kn, .int kd, .int wh, .int nm, .null, .int 0, .null])) := ⟨_, rfl⟩
  rw [← eM_24] at hM hc_19 hc_20 hc_21 hc_22 hc_23
  refine lv_aload_n hx hb dX3_init_25 rfl (lv_at hl 0 rfl) ?_
  refine lv_aload hx hb dX3_init_26 (lv_at hl 5 rfl) ?_
  refine mm_putF (D := Z.1) (ci := 2) (v := .ref q) (ty := .array (.object "RowenTongue$Term")) (C := RX3) (T := TX3) (N := 7) hx hb hts in_X3 tyX3 tyX3_ok nmX3 hown hE.1 hM hS hc_19 mm_cX3 4 (by decide) (hts _ q294) (fun _ h9 => h9) rfl hmn rfl (by decide +kernel) rfl rfl (Nat.le_of_ble_eq_true rfl) dX3_init_28 (fun H locs hM hS => ?_)
  have hM : mm_P Z.1 mm_cl A (mm_U M_24 a (.inr (2, [.int kn, .int kd, .int wh, .int nm, .ref q, .int 0, .null]))) H := hM
  have hc_25 : (mm_U M_24 a (.inr (2, [.int kn, .int kd, .int wh, .int nm, .ref q, .int 0, .null]))) a = some (.inr (2, [.int kn, .int kd, .int wh, .int nm, .ref q, .int 0, .null])) := mm_U_eq
  have hc_26 : (mm_U M_24 a (.inr (2, [.int kn, .int kd, .int wh, .int nm, .ref q, .int 0, .null]))) q = some (.inl (Z.2.1 4, 3, .inr (.inr (.inr (.inr g))))) := (mm_U_ne (mm_neA hc_20 hc_19)).trans hc_20
  have hc_27 : (mm_U M_24 a (.inr (2, [.int kn, .int kd, .int wh, .int nm, .ref q, .int 0, .null]))) b0 = some (.inr (2, [.int (nI k0), .int r0.1, .int r0.2.1, .int r0.2.2.1, .ref q0, .int (nI r0.2.2.2.2), va_rf f0])) := (mm_U_ne hn0).trans hc_21
  have hc_28 : (mm_U M_24 a (.inr (2, [.int kn, .int kd, .int wh, .int nm, .ref q, .int 0, .null]))) b1 = some (.inr (2, [.int (nI k1), .int r1.1, .int r1.2.1, .int r1.2.2.1, .ref q1, .int (nI r1.2.2.2.2), va_rf f1])) := (mm_U_ne hn1).trans hc_22
  have hc_29 : (mm_U M_24 a (.inr (2, [.int kn, .int kd, .int wh, .int nm, .ref q, .int 0, .null]))) b2 = some (.inr (2, [.int (nI k2), .int r2.1, .int r2.2.1, .int r2.2.2.1, .ref q2, .int (nI r2.2.2.2.2), va_rf f2])) := (mm_U_ne hn2).trans hc_23
  obtain ⟨M_30, eM_30⟩ : ∃ z, z = mm_U M_24 a (.inr (2, [.int kn, .int kd, .int wh, .int nm, .ref q, .int 0, .null])) := ⟨_, rfl⟩
  rw [← eM_30] at hM hc_25 hc_26 hc_27 hc_28 hc_29
  refine lv_iconst (v := 1) hx hb dX3_init_31 (by decide) ?_
  refine lv_istore hx hb dX3_init_32 hl (by decide) rfl (fun ls hl => ?_)
  replace hl : lv_has ls 11 [(6, .int 1), (0, .ref a), (1, .int kn), (2, .int kd), (3, .int wh), (4, .int nm), (5, .ref q)] := hl
  refine lv_aload hx hb dX3_init_34 (lv_at hl 6 rfl) ?_
  refine lv_astore hx hb dX3_init_36 hl (by decide) rfl (fun ls hl => ?_)
  replace hl : lv_has ls 11 [(7, .ref q), (6, .int 1), (0, .ref a), (1, .int kn), (2, .int kd), (3, .int wh), (4, .int nm), (5, .ref q)] := hl
  refine lv_aload hx hb dX3_init_38 (lv_at hl 0 rfl) ?_
  refine mm_alen hx hb hE hM 4 hc_26 rfl dX3_init_40 ?_
  rw [show (nI 3 : Int32) = 3 from by decide]
  refine lv_istore hx hb dX3_init_41 hl (by decide) rfl (fun ls hl => ?_)
  replace hl : lv_has ls 11 [(8, .int 3), (7, .ref q), (6, .int 1), (0, .ref a), (1, .int kn), (2, .int kd), (3, .int wh), (4, .int nm), (5, .ref q)] := hl
  refine lv_iconst (v := 0) hx hb dX3_init_43 (by decide) ?_
  refine lv_istore hx hb dX3_init_44 hl (by decide) rfl (fun ls hl => ?_)
  replace hl : lv_has ls 11 [(9, .int 0), (8, .int 3), (7, .ref q), (6, .int 1), (0, .ref a), (1, .int kn), (2, .int kd), (3, .int wh), (4, .int nm), (5, .ref q)] := hl
  refine lv_iload hx hb dX3_init_46 (lv_at hl 0 rfl) ?_
  refine lv_iload hx hb dX3_init_48 (lv_at hl 1 rfl) ?_
  refine lv_icmp_ge (tgt := 76) hx hb dX3_init_50 (by decide) (fun h9 => absurd h9 (by decide)) (fun _ => ?_)
  refine lv_aload hx hb dX3_init_53 (lv_at hl 2 rfl) ?_
  refine lv_iload hx hb dX3_init_55 (lv_at hl 0 rfl) ?_
  refine mm_aald (k := 0) hx hb hE hM 4 hc_26 rfl (by decide) (by decide) (by decide) dX3_init_57 ?_
  rw [hg0]
  refine lv_astore hx hb dX3_init_58 hl (by decide) rfl (fun ls hl => ?_)
  replace hl : lv_has ls 11 [(10, .ref b0), (9, .int 0), (8, .int 3), (7, .ref q), (6, .int 1), (0, .ref a), (1, .int kn), (2, .int kd), (3, .int wh), (4, .int nm), (5, .ref q)] := hl
  refine lv_iload hx hb dX3_init_60 (lv_at hl 4 rfl) ?_
  refine lv_aload hx hb dX3_init_62 (lv_at hl 0 rfl) ?_
  refine va_get (D := Z.1) (ci := 2) (v := .int (nI r0.2.2.2.2)) (C := RX3) (T := TX3) (N := 7) hx hb hts in_X3 hown hE.1 (hM.at hc_27) 0 rfl mm_cX3 5 (by decide) (hts _ q298) (fun _ h9 => h9) rfl dX3_init_64 ?_
  refine lv_iadd hx hb dX3_init_67 ?_
  rw [show (1 + (nI r0.2.2.2.2) : Int32) = nI (1 + r0.2.2.2.2) from by rw [show (1 : Int32) = nI 1 from by decide, nI_add]]
  refine lv_istore hx hb dX3_init_68 hl (by decide) rfl (fun ls hl => ?_)
  replace hl : lv_has ls 11 [(6, .int (nI (1 + r0.2.2.2.2))), (10, .ref b0), (9, .int 0), (8, .int 3), (7, .ref q), (0, .ref a), (1, .int kn), (2, .int kd), (3, .int wh), (4, .int nm), (5, .ref q)] := hl
  refine lv_iinc (v := 1) (lv' := [(9, .int 1), (6, .int (nI (1 + r0.2.2.2.2))), (10, .ref b0), (8, .int 3), (7, .ref q), (0, .ref a), (1, .int kn), (2, .int kd), (3, .int wh), (4, .int nm), (5, .ref q)]) hx hb dX3_init_70 hl (k := 2) rfl (by decide) (by decide) rfl (fun ls hl => ?_)
  refine lv_goto (tgt := 46) hx hb dX3_init_73 (by decide) ?_
  refine lv_iload hx hb dX3_init_46 (lv_at hl 0 rfl) ?_
  refine lv_iload hx hb dX3_init_48 (lv_at hl 3 rfl) ?_
  refine lv_icmp_ge (tgt := 76) hx hb dX3_init_50 (by decide) (fun h9 => absurd h9 (by decide)) (fun _ => ?_)
  refine lv_aload hx hb dX3_init_53 (lv_at hl 4 rfl) ?_
  refine lv_iload hx hb dX3_init_55 (lv_at hl 0 rfl) ?_
  refine mm_aald (k := 1) hx hb hE hM 4 hc_26 rfl (by decide) (by decide) (by decide) dX3_init_57 ?_
  rw [hg1]
  refine lv_astore hx hb dX3_init_58 hl (by decide) rfl (fun ls hl => ?_)
  replace hl : lv_has ls 11 [(10, .ref b1), (9, .int 1), (6, .int (nI (1 + r0.2.2.2.2))), (8, .int 3), (7, .ref q), (0, .ref a), (1, .int kn), (2, .int kd), (3, .int wh), (4, .int nm), (5, .ref q)] := hl
  refine lv_iload hx hb dX3_init_60 (lv_at hl 2 rfl) ?_
  refine lv_aload hx hb dX3_init_62 (lv_at hl 0 rfl) ?_
  refine va_get (D := Z.1) (ci := 2) (v := .int (nI r1.2.2.2.2)) (C := RX3) (T := TX3) (N := 7) hx hb hts in_X3 hown hE.1 (hM.at hc_28) 0 rfl mm_cX3 5 (by decide) (hts _ q298) (fun _ h9 => h9) rfl dX3_init_64 ?_
  refine lv_iadd hx hb dX3_init_67 ?_
  rw [show ((nI (1 + r0.2.2.2.2)) + (nI r1.2.2.2.2) : Int32) = nI (1 + r0.2.2.2.2 + r1.2.2.2.2) from by rw [nI_add]]
  refine lv_istore hx hb dX3_init_68 hl (by decide) rfl (fun ls hl => ?_)
  replace hl : lv_has ls 11 [(6, .int (nI (1 + r0.2.2.2.2 + r1.2.2.2.2))), (10, .ref b1), (9, .int 1), (8, .int 3), (7, .ref q), (0, .ref a), (1, .int kn), (2, .int kd), (3, .int wh), (4, .int nm), (5, .ref q)] := hl
  refine lv_iinc (v := 2) (lv' := [(9, .int 2), (6, .int (nI (1 + r0.2.2.2.2 + r1.2.2.2.2))), (10, .ref b1), (8, .int 3), (7, .ref q), (0, .ref a), (1, .int kn), (2, .int kd), (3, .int wh), (4, .int nm), (5, .ref q)]) hx hb dX3_init_70 hl (k := 2) rfl (by decide) (by decide) rfl (fun ls hl => ?_)
  refine lv_goto (tgt := 46) hx hb dX3_init_73 (by decide) ?_
  refine lv_iload hx hb dX3_init_46 (lv_at hl 0 rfl) ?_
  refine lv_iload hx hb dX3_init_48 (lv_at hl 3 rfl) ?_
  refine lv_icmp_ge (tgt := 76) hx hb dX3_init_50 (by decide) (fun h9 => absurd h9 (by decide)) (fun _ => ?_)
  refine lv_aload hx hb dX3_init_53 (lv_at hl 4 rfl) ?_
  refine lv_iload hx hb dX3_init_55 (lv_at hl 0 rfl) ?_
  refine mm_aald (k := 2) hx hb hE hM 4 hc_26 rfl (by decide) (by decide) (by decide) dX3_init_57 ?_
  rw [hg2]
  refine lv_astore hx hb dX3_init_58 hl (by decide) rfl (fun ls hl => ?_)
  replace hl : lv_has ls 11 [(10, .ref b2), (9, .int 2), (6, .int (nI (1 + r0.2.2.2.2 + r1.2.2.2.2))), (8, .int 3), (7, .ref q), (0, .ref a), (1, .int kn), (2, .int kd), (3, .int wh), (4, .int nm), (5, .ref q)] := hl
  refine lv_iload hx hb dX3_init_60 (lv_at hl 2 rfl) ?_
  refine lv_aload hx hb dX3_init_62 (lv_at hl 0 rfl) ?_
  refine va_get (D := Z.1) (ci := 2) (v := .int (nI r2.2.2.2.2)) (C := RX3) (T := TX3) (N := 7) hx hb hts in_X3 hown hE.1 (hM.at hc_29) 0 rfl mm_cX3 5 (by decide) (hts _ q298) (fun _ h9 => h9) rfl dX3_init_64 ?_
  refine lv_iadd hx hb dX3_init_67 ?_
  rw [show ((nI (1 + r0.2.2.2.2 + r1.2.2.2.2)) + (nI r2.2.2.2.2) : Int32) = nI (1 + r0.2.2.2.2 + r1.2.2.2.2 + r2.2.2.2.2) from by rw [nI_add]]
  refine lv_istore hx hb dX3_init_68 hl (by decide) rfl (fun ls hl => ?_)
  replace hl : lv_has ls 11 [(6, .int (nI (1 + r0.2.2.2.2 + r1.2.2.2.2 + r2.2.2.2.2))), (10, .ref b2), (9, .int 2), (8, .int 3), (7, .ref q), (0, .ref a), (1, .int kn), (2, .int kd), (3, .int wh), (4, .int nm), (5, .ref q)] := hl
  refine lv_iinc (v := 3) (lv' := [(9, .int 3), (6, .int (nI (1 + r0.2.2.2.2 + r1.2.2.2.2 + r2.2.2.2.2))), (10, .ref b2), (8, .int 3), (7, .ref q), (0, .ref a), (1, .int kn), (2, .int kd), (3, .int wh), (4, .int nm), (5, .ref q)]) hx hb dX3_init_70 hl (k := 2) rfl (by decide) (by decide) rfl (fun ls hl => ?_)
  refine lv_goto (tgt := 46) hx hb dX3_init_73 (by decide) ?_
  refine lv_iload hx hb dX3_init_46 (lv_at hl 0 rfl) ?_
  refine lv_iload hx hb dX3_init_48 (lv_at hl 3 rfl) ?_
  refine lv_icmp_ge (tgt := 76) hx hb dX3_init_50 (by decide) (fun _ => ?_) (fun h9 => absurd (by decide) h9)
  refine lv_aload_n hx hb dX3_init_76 rfl (lv_at hl 5 rfl) ?_
  refine lv_iload hx hb dX3_init_77 (lv_at hl 1 rfl) ?_
  refine mm_putF (D := Z.1) (ci := 2) (v := .int (nI (1 + r0.2.2.2.2 + r1.2.2.2.2 + r2.2.2.2.2))) (ty := .int) (C := RX3) (T := TX3) (N := 7) hx hb hts in_X3 tyX3 tyX3_ok nmX3 hown hE.1 hM hS hc_25 mm_cX3 5 (by decide) (hts _ q298) (fun _ h9 => h9) rfl hmn rfl (by decide +kernel) rfl rfl (Nat.le_of_ble_eq_true rfl) dX3_init_79 (fun H locs hM hS => ?_)
  have hM : mm_P Z.1 mm_cl A (mm_U M_30 a (.inr (2, [.int kn, .int kd, .int wh, .int nm, .ref q, .int (nI (1 + r0.2.2.2.2 + r1.2.2.2.2 + r2.2.2.2.2)), .null]))) H := hM
  have hc_31 : (mm_U M_30 a (.inr (2, [.int kn, .int kd, .int wh, .int nm, .ref q, .int (nI (1 + r0.2.2.2.2 + r1.2.2.2.2 + r2.2.2.2.2)), .null]))) a = some (.inr (2, [.int kn, .int kd, .int wh, .int nm, .ref q, .int (nI (1 + r0.2.2.2.2 + r1.2.2.2.2 + r2.2.2.2.2)), .null])) := mm_U_eq
  have hc_32 : (mm_U M_30 a (.inr (2, [.int kn, .int kd, .int wh, .int nm, .ref q, .int (nI (1 + r0.2.2.2.2 + r1.2.2.2.2 + r2.2.2.2.2)), .null]))) q = some (.inl (Z.2.1 4, 3, .inr (.inr (.inr (.inr g))))) := (mm_U_ne (mm_neA hc_26 hc_25)).trans hc_26
  have hc_33 : (mm_U M_30 a (.inr (2, [.int kn, .int kd, .int wh, .int nm, .ref q, .int (nI (1 + r0.2.2.2.2 + r1.2.2.2.2 + r2.2.2.2.2)), .null]))) b0 = some (.inr (2, [.int (nI k0), .int r0.1, .int r0.2.1, .int r0.2.2.1, .ref q0, .int (nI r0.2.2.2.2), va_rf f0])) := (mm_U_ne hn0).trans hc_27
  have hc_34 : (mm_U M_30 a (.inr (2, [.int kn, .int kd, .int wh, .int nm, .ref q, .int (nI (1 + r0.2.2.2.2 + r1.2.2.2.2 + r2.2.2.2.2)), .null]))) b1 = some (.inr (2, [.int (nI k1), .int r1.1, .int r1.2.1, .int r1.2.2.1, .ref q1, .int (nI r1.2.2.2.2), va_rf f1])) := (mm_U_ne hn1).trans hc_28
  have hc_35 : (mm_U M_30 a (.inr (2, [.int kn, .int kd, .int wh, .int nm, .ref q, .int (nI (1 + r0.2.2.2.2 + r1.2.2.2.2 + r2.2.2.2.2)), .null]))) b2 = some (.inr (2, [.int (nI k2), .int r2.1, .int r2.2.1, .int r2.2.2.1, .ref q2, .int (nI r2.2.2.2.2), va_rf f2])) := (mm_U_ne hn2).trans hc_29
  obtain ⟨M_36, eM_36⟩ : ∃ z, z = mm_U M_30 a (.inr (2, [.int kn, .int kd, .int wh, .int nm, .ref q, .int (nI (1 + r0.2.2.2.2 + r1.2.2.2.2 + r2.2.2.2.2)), .null])) := ⟨_, rfl⟩
  rw [← eM_36] at hM hc_31 hc_32 hc_33 hc_34 hc_35
  exact mm_retv hx hb hr hlk hM hS ⟨rfl, by subst eM_36 eM_30 eM_24 eM_18 eM_12 eM_6; simp only [mm_U_U]⟩ dX3_init_82 (Nat.le_of_ble_eq_true rfl) (Nat.le_of_ble_eq_true rfl)
