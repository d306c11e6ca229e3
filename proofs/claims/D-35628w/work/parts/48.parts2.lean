/-! ===== the parts of choices and records ===== -/
set_option maxRecDepth 100000
theorem al_0.ext {Z : mm_G} {M M' : mm_M} (h : al_0 Z M) (he : mm_Ext M M') : al_0 Z M' := by
  obtain ⟨f, hf⟩ := h
  exact ⟨f, he.at hf⟩
theorem mm_isV.ext {M M' : mm_M} {y : Nat} (h : mm_isV M y) (he : mm_Ext M M') : mm_isV M' y := by
  obtain ⟨ci, fs, h1, h2⟩ := h
  exact ⟨ci, fs, he.at h1, h2⟩
theorem mm_isV.ok {M : mm_M} {y : Nat} (h : mm_isV M y) : mm_ok M (some y) := by
  intro v hv
  cases hv
  obtain ⟨ci, fs, h1, -⟩ := h
  exact ⟨ci, fs, h1⟩
/-- a new list grows: what was there ahead of it stays -/
theorem al_new {M M1 M' : mm_M} {a ar ar' n cap : Nat} (h : mm_Ext M M1) (hb : ∀ q, M q ≠ none → q ≠ a ∧ (q = ar → ¬ n < cap)) (hk : ∀ q : Nat, q ≠ a → q ≠ ar' → M' q = M1 q) (ho : ar' = ar ∧ n < cap ∨ M1 ar' = none) : mm_Ext M M' := by
  intro q hq
  rw [hk q (hb q hq).1 (fun h9 => by
    rcases ho with ⟨h1, h2⟩ | h1
    · exact (hb q hq).2 (h9.trans h1) h2
    · rw [← h9, h q hq] at h1; exact hq h1), h q hq]

section MLOOP
variable {p : Program} {l : Launch} {e : Env} {R : Room} {s : State} {m : MethodId} {args : Array Value} {below : List Frame} {meth : Method} {c : Code} {H : Heap} {locs : List Loc} {cells slots : Nat} {Q : State → Prop}
variable {pc : Nat} {ls : Array Slot} {st : List Value} {A : Nat → Prop} {M : mm_M} {H0 : Heap} {Z : mm_G}
/-- a loop: what holds at its head (k: how often yet), by a picture I of memory, locals, cells and slots -/
theorem mm_loopW (I : Nat → mm_M → Array Slot → Nat → Nat → Prop)
    (step : ∀ (k : Nat) (M : mm_M) (ls : Array Slot) (H : Heap) (locs : List Loc) (cells slots : Nat), (∀ k' : Nat, k' < k → ∀ (M : mm_M) (ls : Array Slot) (H : Heap) (locs : List Loc) (cells slots : Nat), I k' M ls cells slots → mm_P Z.1 mm_cl A M H → va_S A H0 H locs → W p l e R s m args below meth c H locs cells slots Q (F0 m pc ls st)) →
      I k M ls cells slots → mm_P Z.1 mm_cl A M H → va_S A H0 H locs → W p l e R s m args below meth c H locs cells slots Q (F0 m pc ls st))
    {k : Nat} (h : I k M ls cells slots) (hM : mm_P Z.1 mm_cl A M H) (hS : va_S A H0 H locs) : W p l e R s m args below meth c H locs cells slots Q (F0 m pc ls st) := by
  have key : ∀ (k : Nat) (M : mm_M) (ls : Array Slot) (H : Heap) (locs : List Loc) (cells slots : Nat), I k M ls cells slots → mm_P Z.1 mm_cl A M H → va_S A H0 H locs → W p l e R s m args below meth c H locs cells slots Q (F0 m pc ls st) := by
    intro k
    induction k using Nat.strongRecOn with
    | ind k ih => exact fun M ls H locs cells slots hI hM hS => step k M ls H locs cells slots ih hI hM hS
  exact key k M ls H locs cells slots h hM hS
end MLOOP
/-- a short list's capacities, and what they have cost -/
def lc_ok (cap : Nat) : Prop := cap = 0 ∨ cap = 10 ∨ cap = 15 ∨ cap = 22
def lc_c (cap : Nat) : Nat := if cap = 0 then 0 else if cap ≤ 10 then 1 else if cap ≤ 15 then 2 else 3
def lc_s (cap : Nat) : Nat := if cap = 0 then 0 else if cap ≤ 10 then 10 else if cap ≤ 15 then 25 else 47
theorem lc_b (cap : Nat) : lc_c cap ≤ 3 ∧ lc_s cap ≤ 47 := by unfold lc_c lc_s; constructor <;> (split <;> (try split) <;> (try split) <;> omega)
theorem lc_step {n cap : Nat} (h : lc_ok cap) (hn : n ≤ cap) (h20 : n < 20) : lc_ok (al_cap n cap) ∧ lc_c cap + al_mk n cap ≤ lc_c (al_cap n cap) ∧ lc_s cap + al_ms n cap ≤ lc_s (al_cap n cap) := by
  by_cases h1 : n < cap
  · simp only [al_cap, al_mk, al_ms, if_pos h1]
    exact ⟨h, by omega, by omega⟩
  · obtain rfl : n = cap := by omega
    rcases h with rfl | rfl | rfl | rfl
    · exact ⟨by unfold lc_ok; decide, by decide, by decide⟩
    · exact ⟨by unfold lc_ok; decide, by decide, by decide⟩
    · exact ⟨by unfold lc_ok; decide, by decide, by decide⟩
    · omega
/-- a list that was made here -/
def AN (Z : mm_G) (M M' : mm_M) (q ar cap : Nat) (xs : List (Option Nat)) : Prop := AL Z M' q ar cap xs ∧ M q = none ∧ (cap = 0 ∨ M ar = none) ∧ lc_ok cap ∧ mm_Ext M M'
theorem AN.len {Z : mm_G} {M M' : mm_M} {q ar cap : Nat} {xs : List (Option Nat)} (h : AN Z M M' q ar cap xs) : xs.length ≤ cap := by
  obtain ⟨⟨_, _, _, _, h1, -⟩, -⟩ := h
  exact h1
theorem AN.add {Z : mm_G} {M M1 M' : mm_M} {q ar ar' cap : Nat} {xs : List (Option Nat)} {r : Option Nat} (h : AN Z M M1 q ar cap xs) (h20 : xs.length < 20) (h1 : AL Z M' q ar' (al_cap xs.length cap) (xs ++ [r])) (hk : ∀ z : Nat, z ≠ q → z ≠ ar' → M' z = M1 z) (ho : ar' = ar ∧ xs.length < cap ∨ M1 ar' = none) : AN Z M M' q ar' (al_cap xs.length cap) (xs ++ [r]) := by
  have hlen := h.len
  obtain ⟨hA, hq, har, hc, he⟩ := h
  have hn : M ar' = none := by
    rcases ho with ⟨h3, h4⟩ | h3
    · rcases har with h5 | h5
      · omega
      · rw [h3]; exact h5
    · cases h9 : M ar' with
      | none => rfl
      | some e => rw [he ar' (by rw [h9]; exact fun h8 => by cases h8), h9] at h3; cases h3
  exact ⟨h1, hq, Or.inr hn, (lc_step hc hlen h20).1, fun z hz => (hk z (fun h9 => hz (h9 ▸ hq)) (fun h9 => hz (h9 ▸ hn))).trans (he z hz)⟩

set_option maxHeartbeats 4000000 in
set_option maxRecDepth 100000 in
theorem c_X37_parts (l : Launch) (Z : mm_G) {M : mm_M} (hz9 : al_0 Z M) {a b va vb : Nat} {n k : Int32} (ha9 : M a = some (.inr (31, [.int n, .ref va]))) (hb9 : M b = some (.inr (31, [.int k, .ref vb]))) (hva : mm_isV M va) (hvb : mm_isV M vb) : mm_C l Z yX37_parts (ws_ yX37_parts cX37_parts 4 (some (.object "java/util/ArrayList"))) { frames := 8, cells := 4, slots := 50, locals := 320 } [.ref a, .ref b] M (fun v M' => (k = n ∧ ∃ q ar cap : Nat, v = some (.ref q) ∧ AN Z M M' q ar cap [some va, some vb]) ∨ (k ≠ n ∧ v = some .null ∧ M' = M)) mm_nx := by
  refine mm_ofW (cc := cX37_parts) (maxL := 4) (ret := (some (.object "java/util/ArrayList"))) (by decide) rfl (Nat.le_of_ble_eq_true rfl) ?_
  intro p e s m below meth c A ls hx hb hr hlk hml hown hmn hts htab hE hST hA hM hS hl
  replace hl : lv_has ls 4 [(0, .ref a), (1, .ref b)] := hl
  refine lv_aload_n hx hb dX37_parts_0 rfl (lv_at hl 1 rfl) ?_
  refine va_instS hx hb hown (hts _ q1910) (hE.1.1 31 _ mm_cX37).2 (mm_recv hE hM mm_cX37 hb9) dX37_parts_1 ?_
  refine lv_if_eq (tgt := 23) hx hb dX37_parts_4 (by decide) (fun h9 => absurd h9 (by decide)) (fun _ => ?_)
  refine lv_aload_n hx hb dX37_parts_7 rfl (lv_at hl 1 rfl) ?_
  refine va_castS hx hb hown (hts _ q1910) (hE.1.1 31 _ mm_cX37).2 (mm_recv hE hM mm_cX37 hb9) dX37_parts_8 ?_
  refine lv_astore_n hx hb dX37_parts_11 rfl hl (by decide) rfl (fun ls hl => ?_)
  replace hl : lv_has ls 4 [(2, .ref b), (0, .ref a), (1, .ref b)] := hl
  refine lv_aload_n hx hb dX37_parts_12 rfl (lv_at hl 0 rfl) ?_
  refine va_get (D := Z.1) (ci := 31) (v := .int k) (C := RX37) (T := TX37) (N := 2) hx hb hts in_X37 hown hE.1 (hM.at hb9) 0 rfl mm_cX37 0 (by decide) (hts _ q1941) (fun _ h9 => h9) rfl dX37_parts_13 ?_
  refine lv_aload_n hx hb dX37_parts_16 rfl (lv_at hl 1 rfl) ?_
  refine va_get (D := Z.1) (ci := 31) (v := .int n) (C := RX37) (T := TX37) (N := 2) hx hb hts in_X37 hown hE.1 (hM.at ha9) 0 rfl mm_cX37 0 (by decide) (hts _ q1941) (fun _ h9 => h9) rfl dX37_parts_17 ?_
  refine lv_icmp_eq (tgt := 25) hx hb dX37_parts_20 (by decide) (fun c_1 => ?_) (fun c_1 => ?_)
  · skip
    refine mm_new (D := Z.1) (ci := 41) (fs := mm_f0J2) (C := RJ2) (T := TJ2) (N := 3) hx hb hts in_J2 tyJ2 tyJ2_ok hown (hts _ q1911) (hts _ q130) (hts _ q53) hE.1 hM hS hA mm_cJ2 mm_dfJ2 (Nat.le_of_ble_eq_true rfl) (Nat.le_of_ble_eq_true rfl) dX37_parts_25 (fun q_3 H nq_2 hM hS => ?_)
    have hM : mm_P Z.1 mm_cl A (mm_U M q_3 (.inr (41, [.int 0, .null, .int 0]))) H := hM
    have ne_4 : a ≠ q_3 := (mm_neN ha9 nq_2)
    have ne_5 : b ≠ q_3 := (mm_neN hb9 nq_2)
    have hc_6 : (mm_U M q_3 (.inr (41, [.int 0, .null, .int 0]))) q_3 = some (.inr (41, [.int 0, .null, .int 0])) := mm_U_eq
    have hc_7 : (mm_U M q_3 (.inr (41, [.int 0, .null, .int 0]))) a = some (.inr (31, [.int n, .ref va])) := (mm_U_ne ne_4).trans ha9
    have hc_8 : (mm_U M q_3 (.inr (41, [.int 0, .null, .int 0]))) b = some (.inr (31, [.int k, .ref vb])) := (mm_U_ne ne_5).trans hb9
    obtain ⟨M_9, eM_9⟩ : ∃ z, z = mm_U M q_3 (.inr (41, [.int 0, .null, .int 0])) := ⟨_, rfl⟩
    rw [← eM_9] at hM hc_7 hc_8 hc_6
    refine lv_dup hx hb dX37_parts_28 rfl ?_
    refine mm_callI (As := []) (rest := [.ref q_3]) ⟨hx, hb, hml, hown, hts⟩ hE hST hA (c_J2_init l Z (M := M_9) (h0 := q_3) hc_6) (cwI (maxL := 1) 0 hts (lw_meth q133) rfl rfl rfl (hts _ q53) (hts _ q1912) (hts _ q132) rfl (by decide +kernel) ⟨(Nat.le_of_ble_eq_true rfl), (Nat.le_of_ble_eq_true rfl)⟩) hM hS rfl hl.1 (Nat.le_of_ble_eq_true rfl) dX37_parts_29 rfl ⟨(Nat.le_of_ble_eq_true rfl), (Nat.le_of_ble_eq_true rfl)⟩ (fun _ _ _ _ _ _ h9 => h9.elim) (fun v_10 M_11 H locs hp_12 hM hS => ?_)
    obtain ⟨rfl, eM_11⟩ := hp_12
    rw [eM_11] at hM
    replace hM : mm_P Z.1 mm_cl A (mm_U M_9 q_3 (.inr (41, [.int 0, .ref (Z.2.2.1 2), .int 0]))) H := hM
    have hc_13 : (mm_U M_9 q_3 (.inr (41, [.int 0, .ref (Z.2.2.1 2), .int 0]))) q_3 = some (.inr (41, [.int 0, .ref (Z.2.2.1 2), .int 0])) := mm_U_eq
    have hc_14 : (mm_U M_9 q_3 (.inr (41, [.int 0, .ref (Z.2.2.1 2), .int 0]))) a = some (.inr (31, [.int n, .ref va])) := (mm_U_ne ne_4).trans hc_7
    have hc_15 : (mm_U M_9 q_3 (.inr (41, [.int 0, .ref (Z.2.2.1 2), .int 0]))) b = some (.inr (31, [.int k, .ref vb])) := (mm_U_ne ne_5).trans hc_8
    obtain ⟨M_16, eM_16⟩ : ∃ z, z = mm_U M_9 q_3 (.inr (41, [.int 0, .ref (Z.2.2.1 2), .int 0])) := ⟨_, rfl⟩
    rw [← eM_16] at hM hc_14 hc_15 hc_13
    have hex0 : mm_Ext M M_16 := by subst eM_16 eM_9; rw [mm_U_U]; exact mm_Ext.U nq_2
    obtain ⟨zf9, hzf9⟩ := hz9
    have hN : AN Z M M_16 q_3 (Z.2.2.1 2) 0 [] := ⟨AL.of (md := 0) (f := zf9) hc_13 (hex0.at hzf9) (Nat.le_refl _) (by decide) (fun _ => rfl) (fun i h9 => absurd h9 (Nat.not_lt_zero i)), nq_2, Or.inl rfl, Or.inl rfl, hex0⟩
    refine lv_astore_n hx hb dX37_parts_32 rfl hl (by decide) rfl (fun ls hl => ?_)
    replace hl : lv_has ls 4 [(3, .ref q_3), (2, .ref b), (0, .ref a), (1, .ref b)] := hl
    refine lv_aload_n hx hb dX37_parts_33 rfl (lv_at hl 0 rfl) ?_
    refine lv_aload_n hx hb dX37_parts_34 rfl (lv_at hl 2 rfl) ?_
    refine va_get (D := Z.1) (ci := 31) (v := .ref va) (C := RX37) (T := TX37) (N := 2) hx hb hts in_X37 hown hE.1 (hM.at hc_14) 0 rfl mm_cX37 1 (by decide) (hts _ q1943) (fun _ h9 => h9) rfl dX37_parts_35 ?_
    have hstk_17 := lc_step hN.2.2.2.1 hN.len (show ([] : List (Option Nat)).length < 20 from (by simp))
    have hlbk_17 := lc_b (al_cap ([] : List (Option Nat)).length 0)
    have hcpk_17 : 0 < 2 ^ 18 := by rcases hN.2.2.2.1 with h9 | h9 | h9 | h9 <;> omega
    have hokk_17 : ∀ z8 ∈ ([] : List (Option Nat)), mm_ok M_16 z8 := (by intro y hy; simp only [List.mem_cons, List.not_mem_nil, or_false] at hy)
    refine mm_callV (As := [.ref va]) (rest := []) ⟨hx, hb, hml, hown, hts⟩ hE hST hA (c_J2_add l Z hN.1 hcpk_17 hokk_17 ((hva.ext hN.2.2.2.2).ok)) (cwV 1 hts (lw_V q1913 q335 q336 q53 q337) rfl rfl rfl (by decide +kernel) ⟨(Nat.le_of_ble_eq_true rfl), (Nat.le_of_ble_eq_true rfl)⟩) hM hS mm_cJ2 hc_13 rfl hl.1 (Nat.le_of_ble_eq_true rfl) dX37_parts_38 rfl ⟨(by dsimp only; omega), (by dsimp only; omega)⟩ (fun _ _ _ _ _ _ h9 => h9.elim) (fun v_18 M_19 H locs hp_20 hM hS => ?_)
    obtain ⟨rfl, ar_21, hA9ar_21, hk9ar_21, ho9ar_21⟩ := hp_20
    replace hN := hN.add (by simp) hA9ar_21 hk9ar_21 ho9ar_21
    have hc_22 := hN.2.2.2.2.at ha9
    have hc_23 := hN.2.2.2.2.at hb9
    obtain ⟨mdhq_24, fqhq_24, hq_24, -⟩ := hN.1
    simp only [List.nil_append] at hN
    refine lv_pop hx hb dX37_parts_41 rfl ?_
    refine lv_aload_n hx hb dX37_parts_42 rfl (lv_at hl 0 rfl) ?_
    refine lv_aload_n hx hb dX37_parts_43 rfl (lv_at hl 1 rfl) ?_
    refine va_get (D := Z.1) (ci := 31) (v := .ref vb) (C := RX37) (T := TX37) (N := 2) hx hb hts in_X37 hown hE.1 (hM.at hc_23) 0 rfl mm_cX37 1 (by decide) (hts _ q1943) (fun _ h9 => h9) rfl dX37_parts_44 ?_
    have hstk_25 := lc_step hN.2.2.2.1 hN.len (show ([some va] : List (Option Nat)).length < 20 from (by simp))
    have hlbk_25 := lc_b (al_cap ([some va] : List (Option Nat)).length (al_cap ([] : List (Option Nat)).length 0))
    have hcpk_25 : (al_cap ([] : List (Option Nat)).length 0) < 2 ^ 18 := by rcases hN.2.2.2.1 with h9 | h9 | h9 | h9 <;> omega
    have hokk_25 : ∀ z8 ∈ ([some va] : List (Option Nat)), mm_ok M_19 z8 := (by intro y hy; simp only [List.mem_cons, List.not_mem_nil, or_false] at hy; subst hy; exact (hva.ext hN.2.2.2.2).ok)
    refine mm_callV (As := [.ref vb]) (rest := []) ⟨hx, hb, hml, hown, hts⟩ hE hST hA (c_J2_add l Z hN.1 hcpk_25 hokk_25 ((hvb.ext hN.2.2.2.2).ok)) (cwV 1 hts (lw_V q1913 q335 q336 q53 q337) rfl rfl rfl (by decide +kernel) ⟨(Nat.le_of_ble_eq_true rfl), (Nat.le_of_ble_eq_true rfl)⟩) hM hS mm_cJ2 hq_24 rfl hl.1 (Nat.le_of_ble_eq_true rfl) dX37_parts_47 rfl ⟨(by dsimp only; omega), (by dsimp only; omega)⟩ (fun _ _ _ _ _ _ h9 => h9.elim) (fun v_26 M_27 H locs hp_28 hM hS => ?_)
    obtain ⟨rfl, ar_29, hA9ar_29, hk9ar_29, ho9ar_29⟩ := hp_28
    replace hN := hN.add (by simp) hA9ar_29 hk9ar_29 ho9ar_29
    have hc_30 := hN.2.2.2.2.at ha9
    have hc_31 := hN.2.2.2.2.at hb9
    obtain ⟨mdhq_32, fqhq_32, hq_32, -⟩ := hN.1
    refine lv_pop hx hb dX37_parts_50 rfl ?_
    refine lv_aload_n hx hb dX37_parts_51 rfl (lv_at hl 0 rfl) ?_
    exact mm_reta hx hb hr (Or.inl ⟨_, rfl⟩) (Or.inr ⟨_, rfl⟩) hlk hM hS (Or.inl ⟨c_1, _, _, _, rfl, hN⟩) dX37_parts_52 (by dsimp only; omega) (by dsimp only; omega)
  · skip
    refine lv_null hx hb dX37_parts_23 ?_
    exact mm_reta hx hb hr (Or.inl ⟨_, rfl⟩) (Or.inl rfl) hlk hM hS (Or.inr ⟨c_1, rfl, rfl⟩) dX37_parts_24 (Nat.le_of_ble_eq_true rfl) (Nat.le_of_ble_eq_true rfl)
