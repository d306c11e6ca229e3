/-! ===== the component's terms: leaf, named, made, match ===== -/
set_option maxRecDepth 100000
theorem AL.ext {Z : mm_G} {M M' : mm_M} {a ar cap : Nat} {xs : List (Option Nat)} (h : AL Z M a ar cap xs) (he : mm_Ext M M') : AL Z M' a ar cap xs := by
  obtain ⟨md, f, h1, h2, h3⟩ := h
  exact ⟨md, f, he.at h1, he.at h2, h3⟩
theorem co_T.ext {Z : mm_G} {M M' : mm_M} {o tl ar cap : Nat} {er st : Int32} {rs : Option Nat} {ad : List Nat} {F : Nat → Option Nat} {T : List pt_R} (h : co_T Z M o er st rs tl ar cap ad F T) (he : mm_Ext M M') : co_T Z M' o er st rs tl ar cap ad F T := by
  obtain ⟨h1, h2, h3, h4⟩ := h
  exact ⟨he.at h1, h2.ext he, h3, h4.ext (fun q hq => he q (by rcases hq with ⟨_, _, _, _, hq⟩ | ⟨_, _, hq⟩ <;> rw [hq] <;> exact fun h9 => by cases h9))⟩
theorem mm_Ext.UU {M N : mm_M} {a : Nat} {e : va_E} (h : mm_Ext M N) (ha : M a = none) : mm_Ext M (mm_U N a e) := fun q hq => (mm_U_ne (fun h9 => hq (by rw [h9]; exact ha))).trans (h q hq)
/-- parts: what is asked of each (cases or none; the number), the terms that they are -/
def pt_p (T : List pt_R) : List (Bool × Int32) → List Nat → Prop
  | [], [] => True
  | x :: xs, k :: ks => (∃ hk : k < T.length, x.2 = nI k ∧ decide (15 ≤ T[k].1) = x.1) ∧ pt_p T xs ks
  | _, _ => False
theorem pt_p.len {T : List pt_R} : ∀ {xs : List (Bool × Int32)} {ks : List Nat}, pt_p T xs ks → ks.length = xs.length
  | [], [], _ => rfl
  | _ :: _, _ :: _, h => by simp [pt_p.len h.2]
  | [], _ :: _, h => h.elim
  | _ :: _, [], h => h.elim
def pl_can (kd i : Int32) : Bool := (kd == 0 && decide (-99 ≤ i ∧ i ≤ 99)) || (kd == 1 && decide (0 ≤ i ∧ i ≤ 9)) || kd == 6 || kd == 15
def pl_wh (kd i : Int32) : Int32 := if kd == 0 || kd == 1 then i else 0
def pn_two (kd : Int32) : Bool := kd == 4 || kd == 5 || kd == 7
def pn_one (kd : Int32) : Bool := kd == 2 || kd == 8 || kd == 9 || kd == 10 || kd == 16
def pm_can (kd : Int32) : Bool := kd == 3 || kd == 11 || kd == 12 || kd == 13 || kd == 14
def pn_spec (two : Bool) (i1 i2 : Int32) : List (Bool × Int32) := match two with | true => [(false, i1), (false, i2)] | false => [(false, i1)]
def pm_spec (kd i1 i2 i3 : Int32) : List (Bool × Int32) := match kd == 12 with | true => [(false, i1), (kd == 11, i2), (false, i3)] | false => [(false, i1), (kd == 11, i2)]
theorem pn_hd (b : Bool) (i1 i2 : Int32) : ∃ t, pn_spec b i1 i2 = (false, i1) :: t := by cases b <;> exact ⟨_, rfl⟩
theorem pm_hd (kd i1 i2 i3 : Int32) : ∃ t, pm_spec kd i1 i2 i3 = (false, i1) :: (kd == 11, i2) :: t := by unfold pm_spec; cases (kd == 12) <;> exact ⟨_, rfl⟩
theorem pt_p_1 {T : List pt_R} {x : Bool × Int32} {xs : List (Bool × Int32)} {ps : List Nat} (h : pt_p T (x :: xs) ps) : ∃ (k : Nat) (hk : k < T.length), x.2 = nI k ∧ decide (15 ≤ T[k].1) = x.1 := by
  cases ps with
  | nil => exact h.elim
  | cons k ks => exact ⟨k, h.1.1, h.1.2⟩
theorem pt_p_2 {T : List pt_R} {x y : Bool × Int32} {xs : List (Bool × Int32)} {ps : List Nat} (h : pt_p T (x :: y :: xs) ps) : ∃ (k : Nat) (hk : k < T.length), y.2 = nI k ∧ decide (15 ≤ T[k].1) = y.1 := by
  cases ps with
  | nil => exact h.elim
  | cons k ks => exact pt_p_1 h.2
theorem pt_p_3 {T : List pt_R} {x y z : Bool × Int32} {xs : List (Bool × Int32)} {ps : List Nat} (h : pt_p T (x :: y :: z :: xs) ps) : ∃ (k : Nat) (hk : k < T.length), z.2 = nI k ∧ decide (15 ≤ T[k].1) = z.1 := by
  cases ps with
  | nil => exact h.elim
  | cons k ks => exact pt_p_2 h.2
theorem ct_ps0 (ad : List Nat) (T : List pt_R) (g : Nat → Option Nat) : ct_ps ad T [] g := fun i j h => by simp at h
theorem ct_ps1 {ad : List Nat} {T : List pt_R} {k a : Nat} (h : k < T.length) (h1 : ad[k]? = some a) : ct_ps ad T [k] (va_up (fun _ => none) 0 (some a)) := by
  intro i j hi
  match i, hi with
  | 0, hi => cases hi; exact ⟨h, a, h1, by simp [va_up]⟩
  | i + 1, hi => simp at hi
theorem ct_ps2 {ad : List Nat} {T : List pt_R} {k a k' a' : Nat} (h : k < T.length) (h1 : ad[k]? = some a) (h' : k' < T.length) (h1' : ad[k']? = some a') : ct_ps ad T [k, k'] (va_up (va_up (fun _ => none) 0 (some a)) 1 (some a')) := by
  intro i j hi
  match i, hi with
  | 0, hi => cases hi; exact ⟨h, a, h1, by simp [va_up]⟩
  | 1, hi => cases hi; exact ⟨h', a', h1', by simp [va_up]⟩
  | i + 2, hi => simp at hi
theorem ct_ps3 {ad : List Nat} {T : List pt_R} {k a k' a' k2 a2 : Nat} (h : k < T.length) (h1 : ad[k]? = some a) (h' : k' < T.length) (h1' : ad[k']? = some a') (h2 : k2 < T.length) (h3 : ad[k2]? = some a2) : ct_ps ad T [k, k', k2] (va_up (va_up (va_up (fun _ => none) 0 (some a)) 1 (some a')) 2 (some a2)) := by
  intro i j hi
  match i, hi with
  | 0, hi => cases hi; exact ⟨h, a, h1, by simp [va_up]⟩
  | 1, hi => cases hi; exact ⟨h', a', h1', by simp [va_up]⟩
  | 2, hi => cases hi; exact ⟨h2, a2, h3, by simp [va_up]⟩
  | i + 3, hi => simp at hi
theorem pm_hmc (k : Int32) (h1 : 11 ≤ k) (h2 : k ≤ 14) : pm_can k = true := by
  have h3 := Int32.le_iff_toInt_le.1 h1
  have h4 := Int32.le_iff_toInt_le.1 h2
  rw [show (11 : Int32).toInt = 11 from by decide] at h3
  rw [show (14 : Int32).toInt = 14 from by decide] at h4
  have h5 : k.toInt = 11 ∨ k.toInt = 12 ∨ k.toInt = 13 ∨ k.toInt = 14 := by omega
  rcases h5 with h5 | h5 | h5 | h5
  · rw [show k = 11 from Int32.toInt_inj.1 h5]; rfl
  · rw [show k = 12 from Int32.toInt_inj.1 h5]; rfl
  · rw [show k = 13 from Int32.toInt_inj.1 h5]; rfl
  · rw [show k = 14 from Int32.toInt_inj.1 h5]; rfl
theorem pm_hmn (k : Int32) (h1 : pm_can k = true) : k = 3 ∨ (11 ≤ k ∧ k ≤ 14) := by
  simp [pm_can] at h1
  rcases h1 with (((h1 | h1) | h1) | h1) | h1 <;> subst h1 <;> decide
theorem mm_lim {b : Bool} (h : 0 ≤ (if b = true then (0 : Int32) else -1) ∧ (if b = true then (0 : Int32) else -1) ≤ 0) : b = true := by
  cases b with
  | true => rfl
  | false => exact absurd h.1 (by decide)
theorem mm_limf {b : Bool} (h : ¬ (0 ≤ (if b = true then (0 : Int32) else -1) ∧ (if b = true then (0 : Int32) else -1) ≤ 0)) : b = false := by
  cases b with
  | false => rfl
  | true => exact absurd (by decide) h

set_option maxHeartbeats 4000000 in
set_option maxRecDepth 100000 in
theorem c_X1_leaf (l : Launch) (Z : mm_G) {M : mm_M} (htr : l.stackTraces = false) {o tl ar cap : Nat} {er st : Int32} {rs : Option Nat} {ad : List Nat} {F : Nat → Option Nat} {T : List pt_R} (hC9 : co_T Z M o er st rs tl ar cap ad F T) {kd i : Int32} : mm_C l Z yX1_leaf (ws_ yX1_leaf cX1_leaf 3 (some .int)) { frames := 10, cells := 6, slots := 240, locals := 340 } [.ref o, .int kd, .int i] M (fun v M' => pl_can kd i = true ∧ ∃ ps : List Nat, pt_p T [] ps ∧ (T.length < 120 ∧ pt_w T ps ≤ 30) ∧ v = some (.int (nI T.length)) ∧ (∃ a ar' cap' : Nat, co_T Z M' o er st rs tl ar' cap' (ad ++ [a]) F (T ++ [(kd, (pl_wh kd i), 0, ps, pt_w T ps)])) ∧ (∀ q : Nat, M q ≠ none → q ≠ tl → q ≠ ar → M' q = M q)) (fun E _ M' => ((pl_can kd i = false ∧ E = "java/lang/IllegalArgumentException") ∨ (pl_can kd i = true ∧ (∀ ps, ¬ pt_p T [] ps) ∧ E = "java/lang/IndexOutOfBoundsException") ∨ (pl_can kd i = true ∧ ∃ ps, pt_p T [] ps ∧ ¬ (T.length < 120 ∧ pt_w T ps ≤ 30) ∧ E = "java/lang/IllegalStateException")) ∧ mm_Ext M M') := by
  refine mm_ofW (cc := cX1_leaf) (maxL := 3) (ret := (some .int)) (by decide) rfl (Nat.le_of_ble_eq_true rfl) ?_
  intro p e s m below meth c A ls hx hb hr hlk hml hown hmn hts htab hE hST hA hM hS hl
  replace hl : lv_has ls 3 [(0, .ref o), (1, .int kd), (2, .int i)] := hl
  have hC8 := hC9
  obtain ⟨ho9, -, -, -⟩ := hC9
  refine mm_cutW (v0 := (if (kd == 0 || kd == 1 || kd == 6 || kd == 15) = true then 0 else -1)) (pc2 := 26) (ls := ls) (rest := []) (M := M) (fun kk => ?_) (fun H locs hM hS => ?_) hM hS
  · skip
    refine lv_iload_n hx hb dX1_leaf_0 rfl (lv_at hl 1 rfl) ?_
    refine lv_if_eq (tgt := 21) hx hb dX1_leaf_1 (by decide) (fun c_1 => ?_) (fun c_1 => ?_)
    · skip
      refine lv_iconst (v := 0) hx hb dX1_leaf_21 (by decide) ?_
      refine lv_goto (tgt := 26) hx hb dX1_leaf_22 (by decide) ?_
      exact kk _ _ _ hM hS (show ((if (kd == 0 || kd == 1 || kd == 6 || kd == 15) = true then 0 else -1) : Int32) = 0 from by simp [c_1]).symm
    · skip
      refine lv_iload_n hx hb dX1_leaf_4 rfl (lv_at hl 1 rfl) ?_
      refine lv_iconst (v := 1) hx hb dX1_leaf_5 (by decide) ?_
      refine lv_icmp_eq (tgt := 21) hx hb dX1_leaf_6 (by decide) (fun c_2 => ?_) (fun c_2 => ?_)
      · skip
        refine lv_iconst (v := 0) hx hb dX1_leaf_21 (by decide) ?_
        refine lv_goto (tgt := 26) hx hb dX1_leaf_22 (by decide) ?_
        exact kk _ _ _ hM hS (show ((if (kd == 0 || kd == 1 || kd == 6 || kd == 15) = true then 0 else -1) : Int32) = 0 from by simp [c_1, c_2]).symm
      · skip
        refine lv_iload_n hx hb dX1_leaf_9 rfl (lv_at hl 1 rfl) ?_
        refine lv_bipush (v := 6) hx hb dX1_leaf_10 (by decide) ?_
        refine lv_icmp_eq (tgt := 21) hx hb dX1_leaf_12 (by decide) (fun c_3 => ?_) (fun c_3 => ?_)
        · skip
          refine lv_iconst (v := 0) hx hb dX1_leaf_21 (by decide) ?_
          refine lv_goto (tgt := 26) hx hb dX1_leaf_22 (by decide) ?_
          exact kk _ _ _ hM hS (show ((if (kd == 0 || kd == 1 || kd == 6 || kd == 15) = true then 0 else -1) : Int32) = 0 from by simp [c_1, c_2, c_3]).symm
        · skip
          refine lv_iload_n hx hb dX1_leaf_15 rfl (lv_at hl 1 rfl) ?_
          refine lv_bipush (v := 15) hx hb dX1_leaf_16 (by decide) ?_
          refine lv_icmp_ne (tgt := 25) hx hb dX1_leaf_18 (by decide) (fun c_4 => ?_) (fun c_4 => ?_)
          · skip
            refine lv_iconst (v := -1) hx hb dX1_leaf_25 (by decide) ?_
            exact kk _ _ _ hM hS (show ((if (kd == 0 || kd == 1 || kd == 6 || kd == 15) = true then 0 else -1) : Int32) = (-1) from by simp [c_1, c_2, c_3, c_4]).symm
          · skip
            refine lv_iconst (v := 0) hx hb dX1_leaf_21 (by decide) ?_
            refine lv_goto (tgt := 26) hx hb dX1_leaf_22 (by decide) ?_
            exact kk _ _ _ hM hS (show ((if (kd == 0 || kd == 1 || kd == 6 || kd == 15) = true then 0 else -1) : Int32) = 0 from by simp [c_1, c_2, c_3, c_4]).symm
  refine lv_iconst (v := 0) hx hb dX1_leaf_26 (by decide) ?_
  refine lv_iconst (v := 0) hx hb dX1_leaf_27 (by decide) ?_
  refine mm_callS (As := [.int (if (kd == 0 || kd == 1 || kd == 6 || kd == 15) = true then 0 else -1), .int 0, .int 0]) (rest := []) ⟨hx, hb, hml, hown, hts⟩ hE hST hA (c_X1_limited l Z htr) (va_cwS 3 hts (lw_S q198 q199 q50 q200) rfl rfl rfl (by decide +kernel) ⟨(Nat.le_of_ble_eq_true rfl), (Nat.le_of_ble_eq_true rfl)⟩) hM hS rfl hl.1 (Nat.le_of_ble_eq_true rfl) dX1_leaf_28 rfl ⟨(Nat.le_of_ble_eq_true rfl), (Nat.le_of_ble_eq_true rfl)⟩ (fun E ce q M9 H1 locs1 hp9 hM9 hS9 hce hcv hcl => mm_outx htab hlk hM9 hS9 hce hcv hcl (⟨Or.inl ⟨by have h8 := mm_limf hp9.1; simp only [Bool.or_eq_false_iff, beq_eq_false_iff_ne] at h8; simp [pl_can, h8], hp9.2.1⟩, hp9.2.2 ▸ mm_Ext.rf M⟩) (Nat.le_of_ble_eq_true rfl) (Nat.le_of_ble_eq_true rfl)) (fun v_1 M_2 H locs hp_3 hM hS => ?_)
  obtain ⟨hkb, rfl, eM_2⟩ := hp_3
  rw [eM_2] at hM
  replace hkb := mm_lim hkb
  refine mm_cutW (v0 := pl_wh kd i) (pc2 := 45) (ls := ls) (rest := []) (M := M) (fun kk => ?_) (fun H locs hM hS => ?_) hM hS
  · skip
    refine lv_iload_n hx hb dX1_leaf_31 rfl (lv_at hl 1 rfl) ?_
    refine lv_if_eq (tgt := 40) hx hb dX1_leaf_32 (by decide) (fun c_4 => ?_) (fun c_4 => ?_)
    · skip
      refine lv_iload_n hx hb dX1_leaf_40 rfl (lv_at hl 2 rfl) ?_
      refine lv_goto (tgt := 45) hx hb dX1_leaf_41 (by decide) ?_
      exact kk _ _ _ hM hS (show (pl_wh kd i : Int32) = i from by simp [pl_wh, c_4]).symm
    · skip
      refine lv_iload_n hx hb dX1_leaf_35 rfl (lv_at hl 1 rfl) ?_
      refine lv_iconst (v := 1) hx hb dX1_leaf_36 (by decide) ?_
      refine lv_icmp_ne (tgt := 44) hx hb dX1_leaf_37 (by decide) (fun c_5 => ?_) (fun c_5 => ?_)
      · skip
        refine lv_iconst (v := 0) hx hb dX1_leaf_44 (by decide) ?_
        exact kk _ _ _ hM hS (show (pl_wh kd i : Int32) = 0 from by simp [pl_wh, c_4, c_5]).symm
      · skip
        refine lv_iload_n hx hb dX1_leaf_40 rfl (lv_at hl 2 rfl) ?_
        refine lv_goto (tgt := 45) hx hb dX1_leaf_41 (by decide) ?_
        exact kk _ _ _ hM hS (show (pl_wh kd i : Int32) = i from by simp [pl_wh, c_4, c_5]).symm
  refine mm_cutW (v0 := (if kd = 0 then -99 else 0)) (pc2 := 55) (ls := ls) (rest := [.int (pl_wh kd i)]) (M := M) (fun kk => ?_) (fun H locs hM hS => ?_) hM hS
  · skip
    refine lv_iload_n hx hb dX1_leaf_45 rfl (lv_at hl 1 rfl) ?_
    refine lv_if_ne (tgt := 54) hx hb dX1_leaf_46 (by decide) (fun c_4 => ?_) (fun c_4 => ?_)
    · skip
      refine lv_iconst (v := 0) hx hb dX1_leaf_54 (by decide) ?_
      exact kk _ _ _ hM hS (show ((if kd = 0 then -99 else 0) : Int32) = 0 from by simp [c_4]).symm
    · skip
      refine lv_bipush (v := -99) hx hb dX1_leaf_49 (by decide) ?_
      refine lv_goto (tgt := 55) hx hb dX1_leaf_51 (by decide) ?_
      exact kk _ _ _ hM hS (show ((if kd = 0 then -99 else 0) : Int32) = (-99) from by simp [c_4]).symm
  refine mm_cutW (v0 := (if kd = 0 then 99 else 9)) (pc2 := 66) (ls := ls) (rest := [.int (if kd = 0 then -99 else 0), .int (pl_wh kd i)]) (M := M) (fun kk => ?_) (fun H locs hM hS => ?_) hM hS
  · skip
    refine lv_iload_n hx hb dX1_leaf_55 rfl (lv_at hl 1 rfl) ?_
    refine lv_if_ne (tgt := 64) hx hb dX1_leaf_56 (by decide) (fun c_4 => ?_) (fun c_4 => ?_)
    · skip
      refine lv_bipush (v := 9) hx hb dX1_leaf_64 (by decide) ?_
      exact kk _ _ _ hM hS (show ((if kd = 0 then 99 else 9) : Int32) = 9 from by simp [c_4]).symm
    · skip
      refine lv_bipush (v := 99) hx hb dX1_leaf_59 (by decide) ?_
      refine lv_goto (tgt := 66) hx hb dX1_leaf_61 (by decide) ?_
      exact kk _ _ _ hM hS (show ((if kd = 0 then 99 else 9) : Int32) = 99 from by simp [c_4]).symm
  have hcan : ((if kd = 0 then -99 else 0) ≤ pl_wh kd i ∧ pl_wh kd i ≤ (if kd = 0 then 99 else 9)) ↔ pl_can kd i = true := by
    simp only [Bool.or_eq_true, beq_iff_eq] at hkb
    rcases hkb with ((rfl | rfl) | rfl) | rfl
    · simp [pl_wh, pl_can]
    · simp [pl_wh, pl_can]
    · simp [pl_wh, pl_can]
    · simp [pl_wh, pl_can]
  refine mm_callS (As := [.int (pl_wh kd i), .int (if kd = 0 then -99 else 0), .int (if kd = 0 then 99 else 9)]) (rest := []) ⟨hx, hb, hml, hown, hts⟩ hE hST hA (c_X1_limited l Z htr) (va_cwS 3 hts (lw_S q198 q199 q50 q200) rfl rfl rfl (by decide +kernel) ⟨(Nat.le_of_ble_eq_true rfl), (Nat.le_of_ble_eq_true rfl)⟩) hM hS rfl hl.1 (Nat.le_of_ble_eq_true rfl) dX1_leaf_66 rfl ⟨(Nat.le_of_ble_eq_true rfl), (Nat.le_of_ble_eq_true rfl)⟩ (fun E ce q M9 H1 locs1 hp9 hM9 hS9 hce hcv hcl => mm_outx htab hlk hM9 hS9 hce hcv hcl (⟨Or.inl ⟨Bool.eq_false_iff.2 (fun h9 => hp9.1 (hcan.2 h9)), hp9.2.1⟩, hp9.2.2 ▸ mm_Ext.rf M⟩) (Nat.le_of_ble_eq_true rfl) (Nat.le_of_ble_eq_true rfl)) (fun v_4 M_5 H locs hp_6 hM hS => ?_)
  obtain ⟨hc2, rfl, eM_5⟩ := hp_6
  rw [eM_5] at hM
  replace hc2 := hcan.1 hc2
  refine lv_aload_n hx hb dX1_leaf_69 rfl (lv_at hl 0 rfl) ?_
  refine lv_iload_n hx hb dX1_leaf_70 rfl (lv_at hl 1 rfl) ?_
  refine mm_cutW (v0 := pl_wh kd i) (pc2 := 85) (ls := ls) (rest := [.int kd, .ref o]) (M := M) (fun kk => ?_) (fun H locs hM hS => ?_) hM hS
  · skip
    refine lv_iload_n hx hb dX1_leaf_71 rfl (lv_at hl 1 rfl) ?_
    refine lv_if_eq (tgt := 80) hx hb dX1_leaf_72 (by decide) (fun c_7 => ?_) (fun c_7 => ?_)
    · skip
      refine lv_iload_n hx hb dX1_leaf_80 rfl (lv_at hl 2 rfl) ?_
      refine lv_goto (tgt := 85) hx hb dX1_leaf_81 (by decide) ?_
      exact kk _ _ _ hM hS (show (pl_wh kd i : Int32) = i from by simp [pl_wh, c_7]).symm
    · skip
      refine lv_iload_n hx hb dX1_leaf_75 rfl (lv_at hl 1 rfl) ?_
      refine lv_iconst (v := 1) hx hb dX1_leaf_76 (by decide) ?_
      refine lv_icmp_ne (tgt := 84) hx hb dX1_leaf_77 (by decide) (fun c_8 => ?_) (fun c_8 => ?_)
      · skip
        refine lv_iconst (v := 0) hx hb dX1_leaf_84 (by decide) ?_
        exact kk _ _ _ hM hS (show (pl_wh kd i : Int32) = 0 from by simp [pl_wh, c_7, c_8]).symm
      · skip
        refine lv_iload_n hx hb dX1_leaf_80 rfl (lv_at hl 2 rfl) ?_
        refine lv_goto (tgt := 85) hx hb dX1_leaf_81 (by decide) ?_
        exact kk _ _ _ hM hS (show (pl_wh kd i : Int32) = i from by simp [pl_wh, c_7, c_8]).symm
  refine lv_iconst (v := 0) hx hb dX1_leaf_85 (by decide) ?_
  refine lv_iconst (v := 0) hx hb dX1_leaf_86 (by decide) ?_
  refine mm_newq hx hb hown (hts _ q270) (hE.2.2.2.2.1 _ (by decide)) hE.1 hM hS hA 4 rfl (by decide) (show Int32.toNatClampNeg 0 = 0 from by decide) (by decide) (Nat.le_of_ble_eq_true rfl) (Nat.le_of_ble_eq_true rfl) dX1_leaf_87 (fun q_7 H nq_8 hM hS => ?_)
  have hM : mm_P Z.1 mm_cl A (mm_U M q_7 (.inl (Z.2.1 4, 0, .inr (.inr (.inr (.inr (fun _ => none))))))) H := hM
  have ne_9 : o ≠ q_7 := (mm_neN ho9 nq_8)
  have hc_10 : (mm_U M q_7 (.inl (Z.2.1 4, 0, .inr (.inr (.inr (.inr (fun _ => none))))))) q_7 = some (.inl (Z.2.1 4, 0, .inr (.inr (.inr (.inr (fun _ => none)))))) := mm_U_eq
  have hc_11 : (mm_U M q_7 (.inl (Z.2.1 4, 0, .inr (.inr (.inr (.inr (fun _ => none))))))) o = some (.inr (0, [.ref tl, .int er, .int st, va_rf rs])) := (mm_U_ne ne_9).trans ho9
  obtain ⟨M_12, eM_12⟩ : ∃ z, z = mm_U M q_7 (.inl (Z.2.1 4, 0, .inr (.inr (.inr (.inr (fun _ => none)))))) := ⟨_, rfl⟩
  rw [← eM_12] at hM hc_11 hc_10
  have hex : mm_Ext M M_12 := by rw [eM_12]; exact mm_Ext.U nq_8
  refine mm_callV (As := [.int kd, .int (pl_wh kd i), .int 0, .ref q_7]) (rest := []) ⟨hx, hb, hml, hown, hts⟩ hE hST hA (c_X1_add l Z htr (ps := []) (hC8.ext hex) hc_10 (ct_ps0 ad T _) (by decide : 0 ≤ 3)) (cwV 4 hts (lw_V q272 q274 qs1 q50 q275) rfl rfl rfl (by decide +kernel) ⟨(Nat.le_of_ble_eq_true rfl), (Nat.le_of_ble_eq_true rfl)⟩) hM hS mm_cX1 hc_11 rfl hl.1 (Nat.le_of_ble_eq_true rfl) dX1_leaf_90 rfl ⟨(Nat.le_of_ble_eq_true rfl), (Nat.le_of_ble_eq_true rfl)⟩ (fun E ce q M9 H1 locs1 hp9 hM9 hS9 hce hcv hcl => mm_outx htab hlk hM9 hS9 hce hcv hcl (⟨Or.inr (Or.inr ⟨hc2, [], (trivial : pt_p T [] []), hp9.1, hp9.2.1⟩), hex.trans hp9.2.2⟩) (Nat.le_of_ble_eq_true rfl) (Nat.le_of_ble_eq_true rfl)) (fun v_13 M_14 H locs hp_15 hM hS => ?_)
  obtain ⟨hok, rfl, hco, hfr⟩ := hp_15
  exact mm_reti hx hb hr hlk hM hS ⟨hc2, [], (trivial : pt_p T [] []), hok, rfl, hco, fun q h1 h2 h3 => (hfr q (by rw [hex q h1]; exact h1) h2 h3).trans (hex q h1)⟩ dX1_leaf_93 (Nat.le_of_ble_eq_true rfl) (Nat.le_of_ble_eq_true rfl)
set_option maxHeartbeats 4000000 in
set_option maxRecDepth 100000 in
theorem c_X1_match (l : Launch) (Z : mm_G) {M : mm_M} (htr : l.stackTraces = false) {o tl ar cap : Nat} {er st : Int32} {rs : Option Nat} {ad : List Nat} {F : Nat → Option Nat} {T : List pt_R} (hC9 : co_T Z M o er st rs tl ar cap ad F T) {lb nm i1 i2 : Int32} : mm_C l Z yX1_match (ws_ yX1_match cX1_match 6 (some .int)) { frames := 11, cells := 12, slots := 280, locals := 340 } [.ref o, .int lb, .int nm, .int i1, .int i2] M (fun v M' => (decide (0 ≤ lb ∧ lb ≤ 9) && decide (0 ≤ nm ∧ nm ≤ 9)) = true ∧ ∃ ps : List Nat, pt_p T [(false, i1), (true, i2)] ps ∧ (T.length < 120 ∧ pt_w T ps ≤ 30) ∧ v = some (.int (nI T.length)) ∧ (∃ a ar' cap' : Nat, co_T Z M' o er st rs tl ar' cap' (ad ++ [a]) F (T ++ [(17, lb, nm, ps, pt_w T ps)])) ∧ (∀ q : Nat, M q ≠ none → q ≠ tl → q ≠ ar → M' q = M q)) (fun E _ M' => (((decide (0 ≤ lb ∧ lb ≤ 9) && decide (0 ≤ nm ∧ nm ≤ 9)) = false ∧ E = "java/lang/IllegalArgumentException") ∨ ((decide (0 ≤ lb ∧ lb ≤ 9) && decide (0 ≤ nm ∧ nm ≤ 9)) = true ∧ (∀ ps, ¬ pt_p T [(false, i1), (true, i2)] ps) ∧ E = "java/lang/IndexOutOfBoundsException") ∨ ((decide (0 ≤ lb ∧ lb ≤ 9) && decide (0 ≤ nm ∧ nm ≤ 9)) = true ∧ ∃ ps, pt_p T [(false, i1), (true, i2)] ps ∧ ¬ (T.length < 120 ∧ pt_w T ps ≤ 30) ∧ E = "java/lang/IllegalStateException")) ∧ mm_Ext M M') := by
  refine mm_ofW (cc := cX1_match) (maxL := 6) (ret := (some .int)) (by decide) rfl (Nat.le_of_ble_eq_true rfl) ?_
  intro p e s m below meth c A ls hx hb hr hlk hml hown hmn hts htab hE hST hA hM hS hl
  replace hl : lv_has ls 6 [(0, .ref o), (1, .int lb), (2, .int nm), (3, .int i1), (4, .int i2)] := hl
  have hC8 := hC9
  obtain ⟨ho9, -, -, -⟩ := hC9
  refine lv_iload_n hx hb dX1_match_0 rfl (lv_at hl 1 rfl) ?_
  refine lv_iconst (v := 0) hx hb dX1_match_1 (by decide) ?_
  refine lv_bipush (v := 9) hx hb dX1_match_2 (by decide) ?_
  refine mm_callS (As := [.int lb, .int 0, .int 9]) (rest := []) ⟨hx, hb, hml, hown, hts⟩ hE hST hA (c_X1_limited l Z htr) (va_cwS 3 hts (lw_S q198 q199 q50 q200) rfl rfl rfl (by decide +kernel) ⟨(Nat.le_of_ble_eq_true rfl), (Nat.le_of_ble_eq_true rfl)⟩) hM hS rfl hl.1 (Nat.le_of_ble_eq_true rfl) dX1_match_4 rfl ⟨(Nat.le_of_ble_eq_true rfl), (Nat.le_of_ble_eq_true rfl)⟩ (fun E ce q M9 H1 locs1 hp9 hM9 hS9 hce hcv hcl => mm_outx htab hlk hM9 hS9 hce hcv hcl (⟨Or.inl ⟨by simp [decide_eq_false hp9.1], hp9.2.1⟩, hp9.2.2 ▸ mm_Ext.rf M⟩) (Nat.le_of_ble_eq_true rfl) (Nat.le_of_ble_eq_true rfl)) (fun v_1 M_2 H locs hp_3 hM hS => ?_)
  obtain ⟨hc1, rfl, eM_2⟩ := hp_3
  rw [eM_2] at hM
  refine lv_iload_n hx hb dX1_match_7 rfl (lv_at hl 2 rfl) ?_
  refine lv_iconst (v := 0) hx hb dX1_match_8 (by decide) ?_
  refine lv_bipush (v := 9) hx hb dX1_match_9 (by decide) ?_
  refine mm_callS (As := [.int nm, .int 0, .int 9]) (rest := []) ⟨hx, hb, hml, hown, hts⟩ hE hST hA (c_X1_limited l Z htr) (va_cwS 3 hts (lw_S q198 q199 q50 q200) rfl rfl rfl (by decide +kernel) ⟨(Nat.le_of_ble_eq_true rfl), (Nat.le_of_ble_eq_true rfl)⟩) hM hS rfl hl.1 (Nat.le_of_ble_eq_true rfl) dX1_match_11 rfl ⟨(Nat.le_of_ble_eq_true rfl), (Nat.le_of_ble_eq_true rfl)⟩ (fun E ce q M9 H1 locs1 hp9 hM9 hS9 hce hcv hcl => mm_outx htab hlk hM9 hS9 hce hcv hcl (⟨Or.inl ⟨by simp [decide_eq_false hp9.1], hp9.2.1⟩, hp9.2.2 ▸ mm_Ext.rf M⟩) (Nat.le_of_ble_eq_true rfl) (Nat.le_of_ble_eq_true rfl)) (fun v_4 M_5 H locs hp_6 hM hS => ?_)
  obtain ⟨hc2, rfl, eM_5⟩ := hp_6
  rw [eM_5] at hM
  have hcan : (decide (0 ≤ lb ∧ lb ≤ 9) && decide (0 ≤ nm ∧ nm ≤ 9)) = true := by rw [decide_eq_true hc1, decide_eq_true hc2]; rfl
  refine lv_aload_n hx hb dX1_match_14 rfl (lv_at hl 0 rfl) ?_
  refine lv_iload_n hx hb dX1_match_15 rfl (lv_at hl 3 rfl) ?_
  refine lv_iconst (v := 0) hx hb dX1_match_16 (by decide) ?_
  refine mm_callV (As := [.int i1, .int (mm_b false)]) (rest := []) ⟨hx, hb, hml, hown, hts⟩ hE hST hA (c_X1_partOf l Z htr (hC8.ext (mm_Ext.rf M))) (cwV 2 hts (lw_V q473 q475 qs5 q50 q476) rfl rfl rfl (by decide +kernel) ⟨(Nat.le_of_ble_eq_true rfl), (Nat.le_of_ble_eq_true rfl)⟩) hM hS mm_cX1 ho9 rfl hl.1 (Nat.le_of_ble_eq_true rfl) dX1_match_17 rfl ⟨(Nat.le_of_ble_eq_true rfl), (Nat.le_of_ble_eq_true rfl)⟩ (fun E ce q M9 H1 locs1 hp9 hM9 hS9 hce hcv hcl => mm_outx htab hlk hM9 hS9 hce hcv hcl (⟨Or.inr (Or.inl ⟨hcan, fun ps hps => by obtain ⟨k, hk, h8, h7⟩ := pt_p_1 hps; exact hp9.1 k hk h8 h7, hp9.2.1⟩), hp9.2.2 ▸ (mm_Ext.rf M)⟩) (Nat.le_of_ble_eq_true rfl) (Nat.le_of_ble_eq_true rfl)) (fun v_7 M_8 H locs hp_9 hM hS => ?_)
  obtain ⟨⟨k1, a1, hk1, rfl, hd1, hb1, rfl⟩, eM_8⟩ := hp_9
  rw [eM_8] at hM
  obtain ⟨z1, qq1, gg1, ee1, ff1, -⟩ := (hC8.ext (mm_Ext.rf M)).2.2.2.at hk1
  obtain rfl : z1 = a1 := Option.some.inj (ee1.symm.trans hb1)
  refine lv_astore hx hb dX1_match_20 hl (by decide) rfl (fun ls hl => ?_)
  replace hl : lv_has ls 6 [(5, .ref z1), (0, .ref o), (1, .int lb), (2, .int nm), (3, .int (nI k1)), (4, .int i2)] := hl
  refine lv_aload_n hx hb dX1_match_22 rfl (lv_at hl 1 rfl) ?_
  refine lv_bipush (v := 17) hx hb dX1_match_23 (by decide) ?_
  refine lv_iload_n hx hb dX1_match_25 rfl (lv_at hl 2 rfl) ?_
  refine lv_iload_n hx hb dX1_match_26 rfl (lv_at hl 3 rfl) ?_
  refine lv_iconst (v := 2) hx hb dX1_match_27 (by decide) ?_
  refine mm_newq hx hb hown (hts _ q270) (hE.2.2.2.2.1 _ (by decide)) hE.1 hM hS hA 4 rfl (by decide) (show Int32.toNatClampNeg 2 = 2 from by decide) (by decide) (Nat.le_of_ble_eq_true rfl) (Nat.le_of_ble_eq_true rfl) dX1_match_28 (fun q_10 H nq_11 hM hS => ?_)
  have hM : mm_P Z.1 mm_cl A (mm_U M q_10 (.inl (Z.2.1 4, 2, .inr (.inr (.inr (.inr (fun _ => none))))))) H := hM
  have ne_12 : o ≠ q_10 := (mm_neN ho9 nq_11)
  have ne_13 : z1 ≠ q_10 := (mm_neN ff1 nq_11)
  have hc_14 : (mm_U M q_10 (.inl (Z.2.1 4, 2, .inr (.inr (.inr (.inr (fun _ => none))))))) q_10 = some (.inl (Z.2.1 4, 2, .inr (.inr (.inr (.inr (fun _ => none)))))) := mm_U_eq
  have hc_15 : (mm_U M q_10 (.inl (Z.2.1 4, 2, .inr (.inr (.inr (.inr (fun _ => none))))))) o = some (.inr (0, [.ref tl, .int er, .int st, va_rf rs])) := (mm_U_ne ne_12).trans ho9
  have hc_16 : (mm_U M q_10 (.inl (Z.2.1 4, 2, .inr (.inr (.inr (.inr (fun _ => none))))))) z1 = some (.inr (2, [.int (nI k1), .int (T[k1].1), .int (T[k1].2.1), .int (T[k1].2.2.1), .ref qq1, .int (nI T[k1].2.2.2.2), va_rf (F k1)])) := (mm_U_ne ne_13).trans ff1
  obtain ⟨M_17, eM_17⟩ : ∃ z, z = mm_U M q_10 (.inl (Z.2.1 4, 2, .inr (.inr (.inr (.inr (fun _ => none)))))) := ⟨_, rfl⟩
  rw [← eM_17] at hM hc_15 hc_16 hc_14
  have hex_18 : mm_Ext M M_17 := by rw [eM_17]; exact mm_Ext.U nq_11
  refine lv_dup hx hb dX1_match_31 rfl ?_
  refine lv_iconst (v := 0) hx hb dX1_match_32 (by decide) ?_
  refine lv_aload hx hb dX1_match_33 (lv_at hl 0 rfl) ?_
  refine mm_aastT (k := 0) hx hb hE hM hS 4 2 hc_14 rfl hc_16 mm_cX3 (by decide) (by decide) (by decide) dX1_match_35 (fun H locs hM hS => ?_)
  have hM : mm_P Z.1 mm_cl A (mm_U M_17 q_10 (.inl (Z.2.1 4, 2, .inr (.inr (.inr (.inr (va_up (fun _ => none) 0 (some z1)))))))) H := hM
  have hc_19 : (mm_U M_17 q_10 (.inl (Z.2.1 4, 2, .inr (.inr (.inr (.inr (va_up (fun _ => none) 0 (some z1)))))))) q_10 = some (.inl (Z.2.1 4, 2, .inr (.inr (.inr (.inr (va_up (fun _ => none) 0 (some z1))))))) := mm_U_eq
  have hc_20 : (mm_U M_17 q_10 (.inl (Z.2.1 4, 2, .inr (.inr (.inr (.inr (va_up (fun _ => none) 0 (some z1)))))))) o = some (.inr (0, [.ref tl, .int er, .int st, va_rf rs])) := (mm_U_ne ne_12).trans hc_15
  have hc_21 : (mm_U M_17 q_10 (.inl (Z.2.1 4, 2, .inr (.inr (.inr (.inr (va_up (fun _ => none) 0 (some z1)))))))) z1 = some (.inr (2, [.int (nI k1), .int (T[k1].1), .int (T[k1].2.1), .int (T[k1].2.2.1), .ref qq1, .int (nI T[k1].2.2.2.2), va_rf (F k1)])) := (mm_U_ne ne_13).trans hc_16
  obtain ⟨M_22, eM_22⟩ : ∃ z, z = mm_U M_17 q_10 (.inl (Z.2.1 4, 2, .inr (.inr (.inr (.inr (va_up (fun _ => none) 0 (some z1))))))) := ⟨_, rfl⟩
  rw [← eM_22] at hM hc_20 hc_21 hc_19
  have hex_23 : mm_Ext M M_22 := by rw [eM_22]; exact (hex_18).UU nq_11
  refine lv_dup hx hb dX1_match_36 rfl ?_
  refine lv_iconst (v := 1) hx hb dX1_match_37 (by decide) ?_
  refine lv_aload_n hx hb dX1_match_38 rfl (lv_at hl 1 rfl) ?_
  refine lv_iload hx hb dX1_match_39 (lv_at hl 5 rfl) ?_
  refine lv_iconst (v := 1) hx hb dX1_match_41 (by decide) ?_
  refine mm_callV (As := [.int i2, .int (mm_b true)]) (rest := [.int 1, .ref q_10, .ref q_10, .int nm, .int lb, .int 17, .ref o]) ⟨hx, hb, hml, hown, hts⟩ hE hST hA (c_X1_partOf l Z htr (hC8.ext hex_23)) (cwV 2 hts (lw_V q473 q475 qs5 q50 q476) rfl rfl rfl (by decide +kernel) ⟨(Nat.le_of_ble_eq_true rfl), (Nat.le_of_ble_eq_true rfl)⟩) hM hS mm_cX1 hc_20 rfl hl.1 (Nat.le_of_ble_eq_true rfl) dX1_match_42 rfl ⟨(Nat.le_of_ble_eq_true rfl), (Nat.le_of_ble_eq_true rfl)⟩ (fun E ce q M9 H1 locs1 hp9 hM9 hS9 hce hcv hcl => mm_outx htab hlk hM9 hS9 hce hcv hcl (⟨Or.inr (Or.inl ⟨hcan, fun ps hps => by obtain ⟨k, hk, h8, h7⟩ := pt_p_2 hps; exact hp9.1 k hk h8 h7, hp9.2.1⟩), hp9.2.2 ▸ hex_23⟩) (Nat.le_of_ble_eq_true rfl) (Nat.le_of_ble_eq_true rfl)) (fun v_24 M_25 H locs hp_26 hM hS => ?_)
  obtain ⟨⟨k2, a2, hk2, rfl, hd2, hb2, rfl⟩, eM_25⟩ := hp_26
  rw [eM_25] at hM
  obtain ⟨z2, qq2, gg2, ee2, ff2, -⟩ := (hC8.ext hex_23).2.2.2.at hk2
  obtain rfl : z2 = a2 := Option.some.inj (ee2.symm.trans hb2)
  refine mm_aastT (k := 1) hx hb hE hM hS 4 2 hc_19 rfl ff2 mm_cX3 (by decide) (by decide) (by decide) dX1_match_45 (fun H locs hM hS => ?_)
  have hM : mm_P Z.1 mm_cl A (mm_U M_22 q_10 (.inl (Z.2.1 4, 2, .inr (.inr (.inr (.inr (va_up (va_up (fun _ => none) 0 (some z1)) 1 (some z2)))))))) H := hM
  have hc_27 : (mm_U M_22 q_10 (.inl (Z.2.1 4, 2, .inr (.inr (.inr (.inr (va_up (va_up (fun _ => none) 0 (some z1)) 1 (some z2)))))))) q_10 = some (.inl (Z.2.1 4, 2, .inr (.inr (.inr (.inr (va_up (va_up (fun _ => none) 0 (some z1)) 1 (some z2))))))) := mm_U_eq
  have hc_28 : (mm_U M_22 q_10 (.inl (Z.2.1 4, 2, .inr (.inr (.inr (.inr (va_up (va_up (fun _ => none) 0 (some z1)) 1 (some z2)))))))) o = some (.inr (0, [.ref tl, .int er, .int st, va_rf rs])) := (mm_U_ne ne_12).trans hc_20
  have hc_29 : (mm_U M_22 q_10 (.inl (Z.2.1 4, 2, .inr (.inr (.inr (.inr (va_up (va_up (fun _ => none) 0 (some z1)) 1 (some z2)))))))) z1 = some (.inr (2, [.int (nI k1), .int (T[k1].1), .int (T[k1].2.1), .int (T[k1].2.2.1), .ref qq1, .int (nI T[k1].2.2.2.2), va_rf (F k1)])) := (mm_U_ne ne_13).trans hc_21
  have hc_30 : (mm_U M_22 q_10 (.inl (Z.2.1 4, 2, .inr (.inr (.inr (.inr (va_up (va_up (fun _ => none) 0 (some z1)) 1 (some z2)))))))) z2 = some (.inr (2, [.int (nI k2), .int (T[k2].1), .int (T[k2].2.1), .int (T[k2].2.2.1), .ref qq2, .int (nI T[k2].2.2.2.2), va_rf (F k2)])) := (mm_U_ne (Ne.symm (mm_neA hc_19 ff2))).trans ff2
  obtain ⟨M_31, eM_31⟩ : ∃ z, z = mm_U M_22 q_10 (.inl (Z.2.1 4, 2, .inr (.inr (.inr (.inr (va_up (va_up (fun _ => none) 0 (some z1)) 1 (some z2))))))) := ⟨_, rfl⟩
  rw [← eM_31] at hM hc_28 hc_29 hc_27 hc_30
  have hex_32 : mm_Ext M M_31 := by rw [eM_31]; exact (hex_23).UU nq_11
  refine mm_callV (As := [.int 17, .int lb, .int nm, .ref q_10]) (rest := []) ⟨hx, hb, hml, hown, hts⟩ hE hST hA (c_X1_add l Z htr (ps := [k1, k2]) (hC8.ext hex_32) hc_27 (ct_ps2 hk1 hb1 hk2 hb2) (by decide : 2 ≤ 3)) (cwV 4 hts (lw_V q272 q274 qs1 q50 q275) rfl rfl rfl (by decide +kernel) ⟨(Nat.le_of_ble_eq_true rfl), (Nat.le_of_ble_eq_true rfl)⟩) hM hS mm_cX1 hc_28 rfl hl.1 (Nat.le_of_ble_eq_true rfl) dX1_match_46 rfl ⟨(Nat.le_of_ble_eq_true rfl), (Nat.le_of_ble_eq_true rfl)⟩ (fun E ce q M9 H1 locs1 hp9 hM9 hS9 hce hcv hcl => mm_outx htab hlk hM9 hS9 hce hcv hcl (⟨Or.inr (Or.inr ⟨hcan, [k1, k2], ⟨⟨hk1, rfl, hd1⟩, ⟨hk2, rfl, hd2⟩, trivial⟩, hp9.1, hp9.2.1⟩), hex_32.trans hp9.2.2⟩) (Nat.le_of_ble_eq_true rfl) (Nat.le_of_ble_eq_true rfl)) (fun v_33 M_34 H locs hp_35 hM hS => ?_)
  obtain ⟨hok, rfl, hco, hfr⟩ := hp_35
  exact mm_reti hx hb hr hlk hM hS ⟨hcan, [k1, k2], ⟨⟨hk1, rfl, hd1⟩, ⟨hk2, rfl, hd2⟩, trivial⟩, hok, rfl, hco, fun q h1 h2 h3 => (hfr q (by rw [hex_32 q h1]; exact h1) h2 h3).trans (hex_32 q h1)⟩ dX1_match_49 (Nat.le_of_ble_eq_true rfl) (Nat.le_of_ble_eq_true rfl)
set_option maxHeartbeats 4000000 in
set_option maxRecDepth 100000 in
theorem c_X1_named (l : Launch) (Z : mm_G) {M : mm_M} (htr : l.stackTraces = false) {o tl ar cap : Nat} {er st : Int32} {rs : Option Nat} {ad : List Nat} {F : Nat → Option Nat} {T : List pt_R} (hC9 : co_T Z M o er st rs tl ar cap ad F T) {kd wh i1 i2 : Int32} : mm_C l Z yX1_named (ws_ yX1_named cX1_named 8 (some .int)) { frames := 11, cells := 12, slots := 280, locals := 340 } [.ref o, .int kd, .int wh, .int i1, .int i2] M (fun v M' => ((pn_two kd || pn_one kd) && decide (0 ≤ wh ∧ wh ≤ 9)) = true ∧ ∃ ps : List Nat, pt_p T (pn_spec (pn_two kd) i1 i2) ps ∧ (T.length < 120 ∧ pt_w T ps ≤ 30) ∧ v = some (.int (nI T.length)) ∧ (∃ a ar' cap' : Nat, co_T Z M' o er st rs tl ar' cap' (ad ++ [a]) F (T ++ [(kd, wh, 0, ps, pt_w T ps)])) ∧ (∀ q : Nat, M q ≠ none → q ≠ tl → q ≠ ar → M' q = M q)) (fun E _ M' => ((((pn_two kd || pn_one kd) && decide (0 ≤ wh ∧ wh ≤ 9)) = false ∧ E = "java/lang/IllegalArgumentException") ∨ (((pn_two kd || pn_one kd) && decide (0 ≤ wh ∧ wh ≤ 9)) = true ∧ (∀ ps, ¬ pt_p T (pn_spec (pn_two kd) i1 i2) ps) ∧ E = "java/lang/IndexOutOfBoundsException") ∨ (((pn_two kd || pn_one kd) && decide (0 ≤ wh ∧ wh ≤ 9)) = true ∧ ∃ ps, pt_p T (pn_spec (pn_two kd) i1 i2) ps ∧ ¬ (T.length < 120 ∧ pt_w T ps ≤ 30) ∧ E = "java/lang/IllegalStateException")) ∧ mm_Ext M M') := by
  refine mm_ofW (cc := cX1_named) (maxL := 8) (ret := (some .int)) (by decide) rfl (Nat.le_of_ble_eq_true rfl) ?_
  intro p e s m below meth c A ls hx hb hr hlk hml hown hmn hts htab hE hST hA hM hS hl
  replace hl : lv_has ls 8 [(0, .ref o), (1, .int kd), (2, .int wh), (3, .int i1), (4, .int i2)] := hl
  have hC8 := hC9
  obtain ⟨ho9, -, -, -⟩ := hC9
  refine mm_cutW (v0 := mm_b (pn_two kd)) (pc2 := 21) (ls := ls) (rest := []) (M := M) (fun kk => ?_) (fun H locs hM hS => ?_) hM hS
  · skip
    refine lv_iload_n hx hb dX1_named_0 rfl (lv_at hl 1 rfl) ?_
    refine lv_iconst (v := 4) hx hb dX1_named_1 (by decide) ?_
    refine lv_icmp_eq (tgt := 16) hx hb dX1_named_2 (by decide) (fun c_1 => ?_) (fun c_1 => ?_)
    · skip
      refine lv_iconst (v := 1) hx hb dX1_named_16 (by decide) ?_
      refine lv_goto (tgt := 21) hx hb dX1_named_17 (by decide) ?_
      exact kk _ _ _ hM hS (show (mm_b (pn_two kd) : Int32) = 1 from by simp [pn_two, mm_b, c_1]).symm
    · skip
      refine lv_iload_n hx hb dX1_named_5 rfl (lv_at hl 1 rfl) ?_
      refine lv_iconst (v := 5) hx hb dX1_named_6 (by decide) ?_
      refine lv_icmp_eq (tgt := 16) hx hb dX1_named_7 (by decide) (fun c_2 => ?_) (fun c_2 => ?_)
      · skip
        refine lv_iconst (v := 1) hx hb dX1_named_16 (by decide) ?_
        refine lv_goto (tgt := 21) hx hb dX1_named_17 (by decide) ?_
        exact kk _ _ _ hM hS (show (mm_b (pn_two kd) : Int32) = 1 from by simp [pn_two, mm_b, c_1, c_2]).symm
      · skip
        refine lv_iload_n hx hb dX1_named_10 rfl (lv_at hl 1 rfl) ?_
        refine lv_bipush (v := 7) hx hb dX1_named_11 (by decide) ?_
        refine lv_icmp_ne (tgt := 20) hx hb dX1_named_13 (by decide) (fun c_3 => ?_) (fun c_3 => ?_)
        · skip
          refine lv_iconst (v := 0) hx hb dX1_named_20 (by decide) ?_
          exact kk _ _ _ hM hS (show (mm_b (pn_two kd) : Int32) = 0 from by simp [pn_two, mm_b, c_1, c_2, c_3]).symm
        · skip
          refine lv_iconst (v := 1) hx hb dX1_named_16 (by decide) ?_
          refine lv_goto (tgt := 21) hx hb dX1_named_17 (by decide) ?_
          exact kk _ _ _ hM hS (show (mm_b (pn_two kd) : Int32) = 1 from by simp [pn_two, mm_b, c_1, c_2, c_3]).symm
  refine lv_istore hx hb dX1_named_21 hl (by decide) rfl (fun ls hl => ?_)
  replace hl : lv_has ls 8 [(5, .int (mm_b (pn_two kd))), (0, .ref o), (1, .int kd), (2, .int wh), (3, .int i1), (4, .int i2)] := hl
  refine mm_cutW (v0 := mm_b (pn_one kd)) (pc2 := 57) (ls := ls) (rest := []) (M := M) (fun kk => ?_) (fun H locs hM hS => ?_) hM hS
  · skip
    refine lv_iload_n hx hb dX1_named_23 rfl (lv_at hl 2 rfl) ?_
    refine lv_iconst (v := 2) hx hb dX1_named_24 (by decide) ?_
    refine lv_icmp_eq (tgt := 52) hx hb dX1_named_25 (by decide) (fun c_1 => ?_) (fun c_1 => ?_)
    · skip
      refine lv_iconst (v := 1) hx hb dX1_named_52 (by decide) ?_
      refine lv_goto (tgt := 57) hx hb dX1_named_53 (by decide) ?_
      exact kk _ _ _ hM hS (show (mm_b (pn_one kd) : Int32) = 1 from by simp [pn_one, mm_b, c_1]).symm
    · skip
      refine lv_iload_n hx hb dX1_named_28 rfl (lv_at hl 2 rfl) ?_
      refine lv_bipush (v := 8) hx hb dX1_named_29 (by decide) ?_
      refine lv_icmp_eq (tgt := 52) hx hb dX1_named_31 (by decide) (fun c_2 => ?_) (fun c_2 => ?_)
      · skip
        refine lv_iconst (v := 1) hx hb dX1_named_52 (by decide) ?_
        refine lv_goto (tgt := 57) hx hb dX1_named_53 (by decide) ?_
        exact kk _ _ _ hM hS (show (mm_b (pn_one kd) : Int32) = 1 from by simp [pn_one, mm_b, c_1, c_2]).symm
      · skip
        refine lv_iload_n hx hb dX1_named_34 rfl (lv_at hl 2 rfl) ?_
        refine lv_bipush (v := 9) hx hb dX1_named_35 (by decide) ?_
        refine lv_icmp_eq (tgt := 52) hx hb dX1_named_37 (by decide) (fun c_3 => ?_) (fun c_3 => ?_)
        · skip
          refine lv_iconst (v := 1) hx hb dX1_named_52 (by decide) ?_
          refine lv_goto (tgt := 57) hx hb dX1_named_53 (by decide) ?_
          exact kk _ _ _ hM hS (show (mm_b (pn_one kd) : Int32) = 1 from by simp [pn_one, mm_b, c_1, c_2, c_3]).symm
        · skip
          refine lv_iload_n hx hb dX1_named_40 rfl (lv_at hl 2 rfl) ?_
          refine lv_bipush (v := 10) hx hb dX1_named_41 (by decide) ?_
          refine lv_icmp_eq (tgt := 52) hx hb dX1_named_43 (by decide) (fun c_4 => ?_) (fun c_4 => ?_)
          · skip
            refine lv_iconst (v := 1) hx hb dX1_named_52 (by decide) ?_
            refine lv_goto (tgt := 57) hx hb dX1_named_53 (by decide) ?_
            exact kk _ _ _ hM hS (show (mm_b (pn_one kd) : Int32) = 1 from by simp [pn_one, mm_b, c_1, c_2, c_3, c_4]).symm
          · skip
            refine lv_iload_n hx hb dX1_named_46 rfl (lv_at hl 2 rfl) ?_
            refine lv_bipush (v := 16) hx hb dX1_named_47 (by decide) ?_
            refine lv_icmp_ne (tgt := 56) hx hb dX1_named_49 (by decide) (fun c_5 => ?_) (fun c_5 => ?_)
            · skip
              refine lv_iconst (v := 0) hx hb dX1_named_56 (by decide) ?_
              exact kk _ _ _ hM hS (show (mm_b (pn_one kd) : Int32) = 0 from by simp [pn_one, mm_b, c_1, c_2, c_3, c_4, c_5]).symm
            · skip
              refine lv_iconst (v := 1) hx hb dX1_named_52 (by decide) ?_
              refine lv_goto (tgt := 57) hx hb dX1_named_53 (by decide) ?_
              exact kk _ _ _ hM hS (show (mm_b (pn_one kd) : Int32) = 1 from by simp [pn_one, mm_b, c_1, c_2, c_3, c_4, c_5]).symm
  refine lv_istore hx hb dX1_named_57 hl (by decide) rfl (fun ls hl => ?_)
  replace hl : lv_has ls 8 [(6, .int (mm_b (pn_one kd))), (5, .int (mm_b (pn_two kd))), (0, .ref o), (1, .int kd), (2, .int wh), (3, .int i1), (4, .int i2)] := hl
  refine mm_cutW (v0 := (if (pn_two kd || pn_one kd) = true then 0 else -1)) (pc2 := 74) (ls := ls) (rest := []) (M := M) (fun kk => ?_) (fun H locs hM hS => ?_) hM hS
  · skip
    refine lv_iload hx hb dX1_named_59 (lv_at hl 1 rfl) ?_
    refine lv_if_ne (tgt := 69) hx hb dX1_named_61 (by decide) (fun c_1 => ?_) (fun c_1 => ?_)
    · skip
      refine lv_iconst (v := 0) hx hb dX1_named_69 (by decide) ?_
      refine lv_goto (tgt := 74) hx hb dX1_named_70 (by decide) ?_
      exact kk _ _ _ hM hS (show ((if (pn_two kd || pn_one kd) = true then 0 else -1) : Int32) = 0 from by (revert c_1; cases pn_two kd <;> cases pn_one kd <;> simp [mm_b])).symm
    · skip
      refine lv_iload hx hb dX1_named_64 (lv_at hl 0 rfl) ?_
      refine lv_if_eq (tgt := 73) hx hb dX1_named_66 (by decide) (fun c_2 => ?_) (fun c_2 => ?_)
      · skip
        refine lv_iconst (v := -1) hx hb dX1_named_73 (by decide) ?_
        exact kk _ _ _ hM hS (show ((if (pn_two kd || pn_one kd) = true then 0 else -1) : Int32) = (-1) from by (revert c_1 c_2; cases pn_two kd <;> cases pn_one kd <;> simp [mm_b])).symm
      · skip
        refine lv_iconst (v := 0) hx hb dX1_named_69 (by decide) ?_
        refine lv_goto (tgt := 74) hx hb dX1_named_70 (by decide) ?_
        exact kk _ _ _ hM hS (show ((if (pn_two kd || pn_one kd) = true then 0 else -1) : Int32) = 0 from by (revert c_1 c_2; cases pn_two kd <;> cases pn_one kd <;> simp [mm_b])).symm
  refine lv_iconst (v := 0) hx hb dX1_named_74 (by decide) ?_
  refine lv_iconst (v := 0) hx hb dX1_named_75 (by decide) ?_
  refine mm_callS (As := [.int (if (pn_two kd || pn_one kd) = true then 0 else -1), .int 0, .int 0]) (rest := []) ⟨hx, hb, hml, hown, hts⟩ hE hST hA (c_X1_limited l Z htr) (va_cwS 3 hts (lw_S q198 q199 q50 q200) rfl rfl rfl (by decide +kernel) ⟨(Nat.le_of_ble_eq_true rfl), (Nat.le_of_ble_eq_true rfl)⟩) hM hS rfl hl.1 (Nat.le_of_ble_eq_true rfl) dX1_named_76 rfl ⟨(Nat.le_of_ble_eq_true rfl), (Nat.le_of_ble_eq_true rfl)⟩ (fun E ce q M9 H1 locs1 hp9 hM9 hS9 hce hcv hcl => mm_outx htab hlk hM9 hS9 hce hcv hcl (⟨Or.inl ⟨by simp [mm_limf hp9.1], hp9.2.1⟩, hp9.2.2 ▸ mm_Ext.rf M⟩) (Nat.le_of_ble_eq_true rfl) (Nat.le_of_ble_eq_true rfl)) (fun v_1 M_2 H locs hp_3 hM hS => ?_)
  obtain ⟨hkb, rfl, eM_2⟩ := hp_3
  rw [eM_2] at hM
  replace hkb := mm_lim hkb
  refine lv_iload_n hx hb dX1_named_79 rfl (lv_at hl 4 rfl) ?_
  refine lv_iconst (v := 0) hx hb dX1_named_80 (by decide) ?_
  refine lv_bipush (v := 9) hx hb dX1_named_81 (by decide) ?_
  refine mm_callS (As := [.int wh, .int 0, .int 9]) (rest := []) ⟨hx, hb, hml, hown, hts⟩ hE hST hA (c_X1_limited l Z htr) (va_cwS 3 hts (lw_S q198 q199 q50 q200) rfl rfl rfl (by decide +kernel) ⟨(Nat.le_of_ble_eq_true rfl), (Nat.le_of_ble_eq_true rfl)⟩) hM hS rfl hl.1 (Nat.le_of_ble_eq_true rfl) dX1_named_83 rfl ⟨(Nat.le_of_ble_eq_true rfl), (Nat.le_of_ble_eq_true rfl)⟩ (fun E ce q M9 H1 locs1 hp9 hM9 hS9 hce hcv hcl => mm_outx htab hlk hM9 hS9 hce hcv hcl (⟨Or.inl ⟨by simp [decide_eq_false hp9.1], hp9.2.1⟩, hp9.2.2 ▸ mm_Ext.rf M⟩) (Nat.le_of_ble_eq_true rfl) (Nat.le_of_ble_eq_true rfl)) (fun v_4 M_5 H locs hp_6 hM hS => ?_)
  obtain ⟨hc2, rfl, eM_5⟩ := hp_6
  rw [eM_5] at hM
  have hcan : ((pn_two kd || pn_one kd) && decide (0 ≤ wh ∧ wh ≤ 9)) = true := by rw [hkb, decide_eq_true hc2]; rfl
  refine lv_aload_n hx hb dX1_named_86 rfl (lv_at hl 2 rfl) ?_
  refine lv_iload_n hx hb dX1_named_87 rfl (lv_at hl 5 rfl) ?_
  refine lv_iconst (v := 0) hx hb dX1_named_88 (by decide) ?_
  refine mm_callV (As := [.int i1, .int (mm_b false)]) (rest := []) ⟨hx, hb, hml, hown, hts⟩ hE hST hA (c_X1_partOf l Z htr (hC8.ext (mm_Ext.rf M))) (cwV 2 hts (lw_V q473 q475 qs5 q50 q476) rfl rfl rfl (by decide +kernel) ⟨(Nat.le_of_ble_eq_true rfl), (Nat.le_of_ble_eq_true rfl)⟩) hM hS mm_cX1 ho9 rfl hl.1 (Nat.le_of_ble_eq_true rfl) dX1_named_89 rfl ⟨(Nat.le_of_ble_eq_true rfl), (Nat.le_of_ble_eq_true rfl)⟩ (fun E ce q M9 H1 locs1 hp9 hM9 hS9 hce hcv hcl => mm_outx htab hlk hM9 hS9 hce hcv hcl (⟨Or.inr (Or.inl ⟨hcan, fun ps hps => by obtain ⟨t9, h6⟩ := pn_hd (pn_two kd) i1 i2; rw [h6] at hps; obtain ⟨k, hk, h8, h7⟩ := pt_p_1 hps; exact hp9.1 k hk h8 h7, hp9.2.1⟩), hp9.2.2 ▸ (mm_Ext.rf M)⟩) (Nat.le_of_ble_eq_true rfl) (Nat.le_of_ble_eq_true rfl)) (fun v_7 M_8 H locs hp_9 hM hS => ?_)
  obtain ⟨⟨k1, a1, hk1, rfl, hd1, hb1, rfl⟩, eM_8⟩ := hp_9
  rw [eM_8] at hM
  obtain ⟨z1, qq1, gg1, ee1, ff1, -⟩ := (hC8.ext (mm_Ext.rf M)).2.2.2.at hk1
  obtain rfl : z1 = a1 := Option.some.inj (ee1.symm.trans hb1)
  refine lv_astore hx hb dX1_named_92 hl (by decide) rfl (fun ls hl => ?_)
  replace hl : lv_has ls 8 [(7, .ref z1), (6, .int (mm_b (pn_one kd))), (5, .int (mm_b (pn_two kd))), (0, .ref o), (1, .int kd), (2, .int wh), (3, .int (nI k1)), (4, .int i2)] := hl
  refine lv_iload hx hb dX1_named_94 (lv_at hl 2 rfl) ?_
  refine lv_if_eq (tgt := 128) hx hb dX1_named_96 (by decide) (fun c_10 => ?_) (fun c_10 => ?_)
  · have h2 : pn_two kd = false := (mm_b_0 _).1 c_10
    refine lv_aload_n hx hb dX1_named_128 rfl (lv_at hl 3 rfl) ?_
    refine lv_iload_n hx hb dX1_named_129 rfl (lv_at hl 4 rfl) ?_
    refine lv_iload_n hx hb dX1_named_130 rfl (lv_at hl 5 rfl) ?_
    refine lv_iconst (v := 0) hx hb dX1_named_131 (by decide) ?_
    refine lv_iconst (v := 1) hx hb dX1_named_132 (by decide) ?_
    refine mm_newq hx hb hown (hts _ q270) (hE.2.2.2.2.1 _ (by decide)) hE.1 hM hS hA 4 rfl (by decide) (show Int32.toNatClampNeg 1 = 1 from by decide) (by decide) (Nat.le_of_ble_eq_true rfl) (Nat.le_of_ble_eq_true rfl) dX1_named_133 (fun q_11 H nq_12 hM hS => ?_)
    have hM : mm_P Z.1 mm_cl A (mm_U M q_11 (.inl (Z.2.1 4, 1, .inr (.inr (.inr (.inr (fun _ => none))))))) H := hM
    have ne_13 : o ≠ q_11 := (mm_neN ho9 nq_12)
    have ne_14 : z1 ≠ q_11 := (mm_neN ff1 nq_12)
    have hc_15 : (mm_U M q_11 (.inl (Z.2.1 4, 1, .inr (.inr (.inr (.inr (fun _ => none))))))) q_11 = some (.inl (Z.2.1 4, 1, .inr (.inr (.inr (.inr (fun _ => none)))))) := mm_U_eq
    have hc_16 : (mm_U M q_11 (.inl (Z.2.1 4, 1, .inr (.inr (.inr (.inr (fun _ => none))))))) o = some (.inr (0, [.ref tl, .int er, .int st, va_rf rs])) := (mm_U_ne ne_13).trans ho9
    have hc_17 : (mm_U M q_11 (.inl (Z.2.1 4, 1, .inr (.inr (.inr (.inr (fun _ => none))))))) z1 = some (.inr (2, [.int (nI k1), .int (T[k1].1), .int (T[k1].2.1), .int (T[k1].2.2.1), .ref qq1, .int (nI T[k1].2.2.2.2), va_rf (F k1)])) := (mm_U_ne ne_14).trans ff1
    obtain ⟨M_18, eM_18⟩ : ∃ z, z = mm_U M q_11 (.inl (Z.2.1 4, 1, .inr (.inr (.inr (.inr (fun _ => none)))))) := ⟨_, rfl⟩
    rw [← eM_18] at hM hc_16 hc_17 hc_15
    have hex_19 : mm_Ext M M_18 := by rw [eM_18]; exact mm_Ext.U nq_12
    refine lv_dup hx hb dX1_named_136 rfl ?_
    refine lv_iconst (v := 0) hx hb dX1_named_137 (by decide) ?_
    refine lv_aload hx hb dX1_named_138 (lv_at hl 0 rfl) ?_
    refine mm_aastT (k := 0) hx hb hE hM hS 4 2 hc_15 rfl hc_17 mm_cX3 (by decide) (by decide) (by decide) dX1_named_140 (fun H locs hM hS => ?_)
    have hM : mm_P Z.1 mm_cl A (mm_U M_18 q_11 (.inl (Z.2.1 4, 1, .inr (.inr (.inr (.inr (va_up (fun _ => none) 0 (some z1)))))))) H := hM
    have hc_20 : (mm_U M_18 q_11 (.inl (Z.2.1 4, 1, .inr (.inr (.inr (.inr (va_up (fun _ => none) 0 (some z1)))))))) q_11 = some (.inl (Z.2.1 4, 1, .inr (.inr (.inr (.inr (va_up (fun _ => none) 0 (some z1))))))) := mm_U_eq
    have hc_21 : (mm_U M_18 q_11 (.inl (Z.2.1 4, 1, .inr (.inr (.inr (.inr (va_up (fun _ => none) 0 (some z1)))))))) o = some (.inr (0, [.ref tl, .int er, .int st, va_rf rs])) := (mm_U_ne ne_13).trans hc_16
    have hc_22 : (mm_U M_18 q_11 (.inl (Z.2.1 4, 1, .inr (.inr (.inr (.inr (va_up (fun _ => none) 0 (some z1)))))))) z1 = some (.inr (2, [.int (nI k1), .int (T[k1].1), .int (T[k1].2.1), .int (T[k1].2.2.1), .ref qq1, .int (nI T[k1].2.2.2.2), va_rf (F k1)])) := (mm_U_ne ne_14).trans hc_17
    obtain ⟨M_23, eM_23⟩ : ∃ z, z = mm_U M_18 q_11 (.inl (Z.2.1 4, 1, .inr (.inr (.inr (.inr (va_up (fun _ => none) 0 (some z1))))))) := ⟨_, rfl⟩
    rw [← eM_23] at hM hc_21 hc_22 hc_20
    have hex_24 : mm_Ext M M_23 := by rw [eM_23]; exact (hex_19).UU nq_12
    refine mm_callV (As := [.int kd, .int wh, .int 0, .ref q_11]) (rest := []) ⟨hx, hb, hml, hown, hts⟩ hE hST hA (c_X1_add l Z htr (ps := [k1]) (hC8.ext hex_24) hc_20 (ct_ps1 hk1 hb1) (by decide : 1 ≤ 3)) (cwV 4 hts (lw_V q272 q274 qs1 q50 q275) rfl rfl rfl (by decide +kernel) ⟨(Nat.le_of_ble_eq_true rfl), (Nat.le_of_ble_eq_true rfl)⟩) hM hS mm_cX1 hc_21 rfl hl.1 (Nat.le_of_ble_eq_true rfl) dX1_named_141 rfl ⟨(Nat.le_of_ble_eq_true rfl), (Nat.le_of_ble_eq_true rfl)⟩ (fun E ce q M9 H1 locs1 hp9 hM9 hS9 hce hcv hcl => mm_outx htab hlk hM9 hS9 hce hcv hcl (⟨Or.inr (Or.inr ⟨hcan, [k1], (by rw [h2]; exact ⟨⟨hk1, rfl, hd1⟩, trivial⟩), hp9.1, hp9.2.1⟩), hex_24.trans hp9.2.2⟩) (Nat.le_of_ble_eq_true rfl) (Nat.le_of_ble_eq_true rfl)) (fun v_25 M_26 H locs hp_27 hM hS => ?_)
    obtain ⟨hok, rfl, hco, hfr⟩ := hp_27
    exact mm_reti hx hb hr hlk hM hS ⟨hcan, [k1], (by rw [h2]; exact ⟨⟨hk1, rfl, hd1⟩, trivial⟩), hok, rfl, hco, fun q h1 h2 h3 => (hfr q (by rw [hex_24 q h1]; exact h1) h2 h3).trans (hex_24 q h1)⟩ dX1_named_144 (Nat.le_of_ble_eq_true rfl) (Nat.le_of_ble_eq_true rfl)
  · have h2 : pn_two kd = true := by cases h9 : pn_two kd with | true => rfl | false => exact absurd ((mm_b_0 _).2 h9) c_10
    refine lv_aload_n hx hb dX1_named_99 rfl (lv_at hl 3 rfl) ?_
    refine lv_iload_n hx hb dX1_named_100 rfl (lv_at hl 4 rfl) ?_
    refine lv_iload_n hx hb dX1_named_101 rfl (lv_at hl 5 rfl) ?_
    refine lv_iconst (v := 0) hx hb dX1_named_102 (by decide) ?_
    refine lv_iconst (v := 2) hx hb dX1_named_103 (by decide) ?_
    refine mm_newq hx hb hown (hts _ q270) (hE.2.2.2.2.1 _ (by decide)) hE.1 hM hS hA 4 rfl (by decide) (show Int32.toNatClampNeg 2 = 2 from by decide) (by decide) (Nat.le_of_ble_eq_true rfl) (Nat.le_of_ble_eq_true rfl) dX1_named_104 (fun q_11 H nq_12 hM hS => ?_)
    have hM : mm_P Z.1 mm_cl A (mm_U M q_11 (.inl (Z.2.1 4, 2, .inr (.inr (.inr (.inr (fun _ => none))))))) H := hM
    have ne_13 : o ≠ q_11 := (mm_neN ho9 nq_12)
    have ne_14 : z1 ≠ q_11 := (mm_neN ff1 nq_12)
    have hc_15 : (mm_U M q_11 (.inl (Z.2.1 4, 2, .inr (.inr (.inr (.inr (fun _ => none))))))) q_11 = some (.inl (Z.2.1 4, 2, .inr (.inr (.inr (.inr (fun _ => none)))))) := mm_U_eq
    have hc_16 : (mm_U M q_11 (.inl (Z.2.1 4, 2, .inr (.inr (.inr (.inr (fun _ => none))))))) o = some (.inr (0, [.ref tl, .int er, .int st, va_rf rs])) := (mm_U_ne ne_13).trans ho9
    have hc_17 : (mm_U M q_11 (.inl (Z.2.1 4, 2, .inr (.inr (.inr (.inr (fun _ => none))))))) z1 = some (.inr (2, [.int (nI k1), .int (T[k1].1), .int (T[k1].2.1), .int (T[k1].2.2.1), .ref qq1, .int (nI T[k1].2.2.2.2), va_rf (F k1)])) := (mm_U_ne ne_14).trans ff1
    obtain ⟨M_18, eM_18⟩ : ∃ z, z = mm_U M q_11 (.inl (Z.2.1 4, 2, .inr (.inr (.inr (.inr (fun _ => none)))))) := ⟨_, rfl⟩
    rw [← eM_18] at hM hc_16 hc_17 hc_15
    have hex_19 : mm_Ext M M_18 := by rw [eM_18]; exact mm_Ext.U nq_12
    refine lv_dup hx hb dX1_named_107 rfl ?_
    refine lv_iconst (v := 0) hx hb dX1_named_108 (by decide) ?_
    refine lv_aload hx hb dX1_named_109 (lv_at hl 0 rfl) ?_
    refine mm_aastT (k := 0) hx hb hE hM hS 4 2 hc_15 rfl hc_17 mm_cX3 (by decide) (by decide) (by decide) dX1_named_111 (fun H locs hM hS => ?_)
    have hM : mm_P Z.1 mm_cl A (mm_U M_18 q_11 (.inl (Z.2.1 4, 2, .inr (.inr (.inr (.inr (va_up (fun _ => none) 0 (some z1)))))))) H := hM
    have hc_20 : (mm_U M_18 q_11 (.inl (Z.2.1 4, 2, .inr (.inr (.inr (.inr (va_up (fun _ => none) 0 (some z1)))))))) q_11 = some (.inl (Z.2.1 4, 2, .inr (.inr (.inr (.inr (va_up (fun _ => none) 0 (some z1))))))) := mm_U_eq
    have hc_21 : (mm_U M_18 q_11 (.inl (Z.2.1 4, 2, .inr (.inr (.inr (.inr (va_up (fun _ => none) 0 (some z1)))))))) o = some (.inr (0, [.ref tl, .int er, .int st, va_rf rs])) := (mm_U_ne ne_13).trans hc_16
    have hc_22 : (mm_U M_18 q_11 (.inl (Z.2.1 4, 2, .inr (.inr (.inr (.inr (va_up (fun _ => none) 0 (some z1)))))))) z1 = some (.inr (2, [.int (nI k1), .int (T[k1].1), .int (T[k1].2.1), .int (T[k1].2.2.1), .ref qq1, .int (nI T[k1].2.2.2.2), va_rf (F k1)])) := (mm_U_ne ne_14).trans hc_17
    obtain ⟨M_23, eM_23⟩ : ∃ z, z = mm_U M_18 q_11 (.inl (Z.2.1 4, 2, .inr (.inr (.inr (.inr (va_up (fun _ => none) 0 (some z1))))))) := ⟨_, rfl⟩
    rw [← eM_23] at hM hc_21 hc_22 hc_20
    have hex_24 : mm_Ext M M_23 := by rw [eM_23]; exact (hex_19).UU nq_12
    refine lv_dup hx hb dX1_named_112 rfl ?_
    refine lv_iconst (v := 1) hx hb dX1_named_113 (by decide) ?_
    refine lv_aload_n hx hb dX1_named_114 rfl (lv_at hl 3 rfl) ?_
    refine lv_iload hx hb dX1_named_115 (lv_at hl 7 rfl) ?_
    refine lv_iconst (v := 0) hx hb dX1_named_117 (by decide) ?_
    refine mm_callV (As := [.int i2, .int (mm_b false)]) (rest := [.int 1, .ref q_11, .ref q_11, .int 0, .int wh, .int kd, .ref o]) ⟨hx, hb, hml, hown, hts⟩ hE hST hA (c_X1_partOf l Z htr (hC8.ext hex_24)) (cwV 2 hts (lw_V q473 q475 qs5 q50 q476) rfl rfl rfl (by decide +kernel) ⟨(Nat.le_of_ble_eq_true rfl), (Nat.le_of_ble_eq_true rfl)⟩) hM hS mm_cX1 hc_21 rfl hl.1 (Nat.le_of_ble_eq_true rfl) dX1_named_118 rfl ⟨(Nat.le_of_ble_eq_true rfl), (Nat.le_of_ble_eq_true rfl)⟩ (fun E ce q M9 H1 locs1 hp9 hM9 hS9 hce hcv hcl => mm_outx htab hlk hM9 hS9 hce hcv hcl (⟨Or.inr (Or.inl ⟨hcan, fun ps hps => by rw [h2] at hps; obtain ⟨k, hk, h8, h7⟩ := pt_p_2 hps; exact hp9.1 k hk h8 h7, hp9.2.1⟩), hp9.2.2 ▸ hex_24⟩) (Nat.le_of_ble_eq_true rfl) (Nat.le_of_ble_eq_true rfl)) (fun v_25 M_26 H locs hp_27 hM hS => ?_)
    obtain ⟨⟨k2, a2, hk2, rfl, hd2, hb2, rfl⟩, eM_26⟩ := hp_27
    rw [eM_26] at hM
    obtain ⟨z2, qq2, gg2, ee2, ff2, -⟩ := (hC8.ext hex_24).2.2.2.at hk2
    obtain rfl : z2 = a2 := Option.some.inj (ee2.symm.trans hb2)
    refine mm_aastT (k := 1) hx hb hE hM hS 4 2 hc_20 rfl ff2 mm_cX3 (by decide) (by decide) (by decide) dX1_named_121 (fun H locs hM hS => ?_)
    have hM : mm_P Z.1 mm_cl A (mm_U M_23 q_11 (.inl (Z.2.1 4, 2, .inr (.inr (.inr (.inr (va_up (va_up (fun _ => none) 0 (some z1)) 1 (some z2)))))))) H := hM
    have hc_28 : (mm_U M_23 q_11 (.inl (Z.2.1 4, 2, .inr (.inr (.inr (.inr (va_up (va_up (fun _ => none) 0 (some z1)) 1 (some z2)))))))) q_11 = some (.inl (Z.2.1 4, 2, .inr (.inr (.inr (.inr (va_up (va_up (fun _ => none) 0 (some z1)) 1 (some z2))))))) := mm_U_eq
    have hc_29 : (mm_U M_23 q_11 (.inl (Z.2.1 4, 2, .inr (.inr (.inr (.inr (va_up (va_up (fun _ => none) 0 (some z1)) 1 (some z2)))))))) o = some (.inr (0, [.ref tl, .int er, .int st, va_rf rs])) := (mm_U_ne ne_13).trans hc_21
    have hc_30 : (mm_U M_23 q_11 (.inl (Z.2.1 4, 2, .inr (.inr (.inr (.inr (va_up (va_up (fun _ => none) 0 (some z1)) 1 (some z2)))))))) z1 = some (.inr (2, [.int (nI k1), .int (T[k1].1), .int (T[k1].2.1), .int (T[k1].2.2.1), .ref qq1, .int (nI T[k1].2.2.2.2), va_rf (F k1)])) := (mm_U_ne ne_14).trans hc_22
    have hc_31 : (mm_U M_23 q_11 (.inl (Z.2.1 4, 2, .inr (.inr (.inr (.inr (va_up (va_up (fun _ => none) 0 (some z1)) 1 (some z2)))))))) z2 = some (.inr (2, [.int (nI k2), .int (T[k2].1), .int (T[k2].2.1), .int (T[k2].2.2.1), .ref qq2, .int (nI T[k2].2.2.2.2), va_rf (F k2)])) := (mm_U_ne (Ne.symm (mm_neA hc_20 ff2))).trans ff2
    obtain ⟨M_32, eM_32⟩ : ∃ z, z = mm_U M_23 q_11 (.inl (Z.2.1 4, 2, .inr (.inr (.inr (.inr (va_up (va_up (fun _ => none) 0 (some z1)) 1 (some z2))))))) := ⟨_, rfl⟩
    rw [← eM_32] at hM hc_29 hc_30 hc_28 hc_31
    have hex_33 : mm_Ext M M_32 := by rw [eM_32]; exact (hex_24).UU nq_12
    refine mm_callV (As := [.int kd, .int wh, .int 0, .ref q_11]) (rest := []) ⟨hx, hb, hml, hown, hts⟩ hE hST hA (c_X1_add l Z htr (ps := [k1, k2]) (hC8.ext hex_33) hc_28 (ct_ps2 hk1 hb1 hk2 hb2) (by decide : 2 ≤ 3)) (cwV 4 hts (lw_V q272 q274 qs1 q50 q275) rfl rfl rfl (by decide +kernel) ⟨(Nat.le_of_ble_eq_true rfl), (Nat.le_of_ble_eq_true rfl)⟩) hM hS mm_cX1 hc_29 rfl hl.1 (Nat.le_of_ble_eq_true rfl) dX1_named_122 rfl ⟨(Nat.le_of_ble_eq_true rfl), (Nat.le_of_ble_eq_true rfl)⟩ (fun E ce q M9 H1 locs1 hp9 hM9 hS9 hce hcv hcl => mm_outx htab hlk hM9 hS9 hce hcv hcl (⟨Or.inr (Or.inr ⟨hcan, [k1, k2], (by rw [h2]; exact ⟨⟨hk1, rfl, hd1⟩, ⟨hk2, rfl, hd2⟩, trivial⟩), hp9.1, hp9.2.1⟩), hex_33.trans hp9.2.2⟩) (Nat.le_of_ble_eq_true rfl) (Nat.le_of_ble_eq_true rfl)) (fun v_34 M_35 H locs hp_36 hM hS => ?_)
    obtain ⟨hok, rfl, hco, hfr⟩ := hp_36
    refine lv_goto (tgt := 144) hx hb dX1_named_125 (by decide) ?_
    exact mm_reti hx hb hr hlk hM hS ⟨hcan, [k1, k2], (by rw [h2]; exact ⟨⟨hk1, rfl, hd1⟩, ⟨hk2, rfl, hd2⟩, trivial⟩), hok, rfl, hco, fun q h1 h2 h3 => (hfr q (by rw [hex_33 q h1]; exact h1) h2 h3).trans (hex_33 q h1)⟩ dX1_named_144 (Nat.le_of_ble_eq_true rfl) (Nat.le_of_ble_eq_true rfl)
set_option maxHeartbeats 4000000 in
set_option maxRecDepth 100000 in
theorem c_X1_made (l : Launch) (Z : mm_G) {M : mm_M} (htr : l.stackTraces = false) {o tl ar cap : Nat} {er st : Int32} {rs : Option Nat} {ad : List Nat} {F : Nat → Option Nat} {T : List pt_R} (hC9 : co_T Z M o er st rs tl ar cap ad F T) {kd i1 i2 i3 : Int32} : mm_C l Z yX1_made (ws_ yX1_made cX1_made 7 (some .int)) { frames := 11, cells := 12, slots := 280, locals := 340 } [.ref o, .int kd, .int i1, .int i2, .int i3] M (fun v M' => pm_can kd = true ∧ ∃ ps : List Nat, pt_p T (pm_spec kd i1 i2 i3) ps ∧ (T.length < 120 ∧ pt_w T ps ≤ 30) ∧ v = some (.int (nI T.length)) ∧ (∃ a ar' cap' : Nat, co_T Z M' o er st rs tl ar' cap' (ad ++ [a]) F (T ++ [(kd, 0, 0, ps, pt_w T ps)])) ∧ (∀ q : Nat, M q ≠ none → q ≠ tl → q ≠ ar → M' q = M q)) (fun E _ M' => ((pm_can kd = false ∧ E = "java/lang/IllegalArgumentException") ∨ (pm_can kd = true ∧ (∀ ps, ¬ pt_p T (pm_spec kd i1 i2 i3) ps) ∧ E = "java/lang/IndexOutOfBoundsException") ∨ (pm_can kd = true ∧ ∃ ps, pt_p T (pm_spec kd i1 i2 i3) ps ∧ ¬ (T.length < 120 ∧ pt_w T ps ≤ 30) ∧ E = "java/lang/IllegalStateException")) ∧ mm_Ext M M') := by
  refine mm_ofW (cc := cX1_made) (maxL := 7) (ret := (some .int)) (by decide) rfl (Nat.le_of_ble_eq_true rfl) ?_
  intro p e s m below meth c A ls hx hb hr hlk hml hown hmn hts htab hE hST hA hM hS hl
  replace hl : lv_has ls 7 [(0, .ref o), (1, .int kd), (2, .int i1), (3, .int i2), (4, .int i3)] := hl
  have hC8 := hC9
  obtain ⟨ho9, -, -, -⟩ := hC9
  refine mm_cutW (v0 := (if pm_can kd = true then 0 else -1)) (pc2 := 22) (ls := ls) (rest := []) (M := M) (fun kk => ?_) (fun H locs hM hS => ?_) hM hS
  · skip
    refine lv_iload_n hx hb dX1_made_0 rfl (lv_at hl 1 rfl) ?_
    refine lv_iconst (v := 3) hx hb dX1_made_1 (by decide) ?_
    refine lv_icmp_eq (tgt := 17) hx hb dX1_made_2 (by decide) (fun c_1 => ?_) (fun c_1 => ?_)
    · skip
      refine lv_iconst (v := 0) hx hb dX1_made_17 (by decide) ?_
      refine lv_goto (tgt := 22) hx hb dX1_made_18 (by decide) ?_
      exact kk _ _ _ hM hS (show ((if pm_can kd = true then 0 else -1) : Int32) = 0 from by (first | (simp [pm_can, c_1]; done) | (rw [pm_hmc kd (Int32.not_lt.1 c_1) (Int32.not_lt.1 c_1)]; rfl) | (rw [if_neg (fun h9 => (pm_hmn kd h9).elim c_1 (fun h8 => absurd h8.1 (Int32.not_le.2 c_1)))]) | (rw [if_neg (fun h9 => (pm_hmn kd h9).elim c_1 (fun h8 => absurd h8.2 (Int32.not_le.2 c_1)))]))).symm
    · skip
      refine lv_iload_n hx hb dX1_made_5 rfl (lv_at hl 1 rfl) ?_
      refine lv_bipush (v := 11) hx hb dX1_made_6 (by decide) ?_
      refine lv_icmp_lt (tgt := 21) hx hb dX1_made_8 (by decide) (fun c_2 => ?_) (fun c_2 => ?_)
      · skip
        refine lv_iconst (v := -1) hx hb dX1_made_21 (by decide) ?_
        exact kk _ _ _ hM hS (show ((if pm_can kd = true then 0 else -1) : Int32) = (-1) from by (first | (simp [pm_can, c_1, c_2]; done) | (rw [pm_hmc kd (Int32.not_lt.1 c_2) (Int32.not_lt.1 c_2)]; rfl) | (rw [if_neg (fun h9 => (pm_hmn kd h9).elim c_1 (fun h8 => absurd h8.1 (Int32.not_le.2 c_2)))]) | (rw [if_neg (fun h9 => (pm_hmn kd h9).elim c_1 (fun h8 => absurd h8.2 (Int32.not_le.2 c_2)))]))).symm
      · skip
        refine lv_iload_n hx hb dX1_made_11 rfl (lv_at hl 1 rfl) ?_
        refine lv_bipush (v := 14) hx hb dX1_made_12 (by decide) ?_
        refine lv_icmp_gt (tgt := 21) hx hb dX1_made_14 (by decide) (fun c_3 => ?_) (fun c_3 => ?_)
        · skip
          refine lv_iconst (v := -1) hx hb dX1_made_21 (by decide) ?_
          exact kk _ _ _ hM hS (show ((if pm_can kd = true then 0 else -1) : Int32) = (-1) from by (first | (simp [pm_can, c_1, c_2, c_3]; done) | (rw [pm_hmc kd (Int32.not_lt.1 c_2) (Int32.not_lt.1 c_3)]; rfl) | (rw [if_neg (fun h9 => (pm_hmn kd h9).elim c_1 (fun h8 => absurd h8.1 (Int32.not_le.2 c_3)))]) | (rw [if_neg (fun h9 => (pm_hmn kd h9).elim c_1 (fun h8 => absurd h8.2 (Int32.not_le.2 c_3)))]))).symm
        · skip
          refine lv_iconst (v := 0) hx hb dX1_made_17 (by decide) ?_
          refine lv_goto (tgt := 22) hx hb dX1_made_18 (by decide) ?_
          exact kk _ _ _ hM hS (show ((if pm_can kd = true then 0 else -1) : Int32) = 0 from by (first | (simp [pm_can, c_1, c_2, c_3]; done) | (rw [pm_hmc kd (Int32.not_lt.1 c_2) (Int32.not_lt.1 c_3)]; rfl) | (rw [if_neg (fun h9 => (pm_hmn kd h9).elim c_1 (fun h8 => absurd h8.1 (Int32.not_le.2 c_3)))]) | (rw [if_neg (fun h9 => (pm_hmn kd h9).elim c_1 (fun h8 => absurd h8.2 (Int32.not_le.2 c_3)))]))).symm
  refine lv_iconst (v := 0) hx hb dX1_made_22 (by decide) ?_
  refine lv_iconst (v := 0) hx hb dX1_made_23 (by decide) ?_
  refine mm_callS (As := [.int (if pm_can kd = true then 0 else -1), .int 0, .int 0]) (rest := []) ⟨hx, hb, hml, hown, hts⟩ hE hST hA (c_X1_limited l Z htr) (va_cwS 3 hts (lw_S q198 q199 q50 q200) rfl rfl rfl (by decide +kernel) ⟨(Nat.le_of_ble_eq_true rfl), (Nat.le_of_ble_eq_true rfl)⟩) hM hS rfl hl.1 (Nat.le_of_ble_eq_true rfl) dX1_made_24 rfl ⟨(Nat.le_of_ble_eq_true rfl), (Nat.le_of_ble_eq_true rfl)⟩ (fun E ce q M9 H1 locs1 hp9 hM9 hS9 hce hcv hcl => mm_outx htab hlk hM9 hS9 hce hcv hcl (⟨Or.inl ⟨by simp [mm_limf hp9.1], hp9.2.1⟩, hp9.2.2 ▸ mm_Ext.rf M⟩) (Nat.le_of_ble_eq_true rfl) (Nat.le_of_ble_eq_true rfl)) (fun v_1 M_2 H locs hp_3 hM hS => ?_)
  obtain ⟨hkb, rfl, eM_2⟩ := hp_3
  rw [eM_2] at hM
  have hcan := mm_lim hkb
  refine lv_aload_n hx hb dX1_made_27 rfl (lv_at hl 0 rfl) ?_
  refine lv_iload_n hx hb dX1_made_28 rfl (lv_at hl 2 rfl) ?_
  refine lv_iconst (v := 0) hx hb dX1_made_29 (by decide) ?_
  refine mm_callV (As := [.int i1, .int (mm_b false)]) (rest := []) ⟨hx, hb, hml, hown, hts⟩ hE hST hA (c_X1_partOf l Z htr (hC8.ext (mm_Ext.rf M))) (cwV 2 hts (lw_V q473 q475 qs5 q50 q476) rfl rfl rfl (by decide +kernel) ⟨(Nat.le_of_ble_eq_true rfl), (Nat.le_of_ble_eq_true rfl)⟩) hM hS mm_cX1 ho9 rfl hl.1 (Nat.le_of_ble_eq_true rfl) dX1_made_30 rfl ⟨(Nat.le_of_ble_eq_true rfl), (Nat.le_of_ble_eq_true rfl)⟩ (fun E ce q M9 H1 locs1 hp9 hM9 hS9 hce hcv hcl => mm_outx htab hlk hM9 hS9 hce hcv hcl (⟨Or.inr (Or.inl ⟨hcan, fun ps hps => by obtain ⟨t9, h6⟩ := pm_hd kd i1 i2 i3; rw [h6] at hps; obtain ⟨k, hk, h8, h7⟩ := pt_p_1 hps; exact hp9.1 k hk h8 h7, hp9.2.1⟩), hp9.2.2 ▸ (mm_Ext.rf M)⟩) (Nat.le_of_ble_eq_true rfl) (Nat.le_of_ble_eq_true rfl)) (fun v_4 M_5 H locs hp_6 hM hS => ?_)
  obtain ⟨⟨k1, a1, hk1, rfl, hd1, hb1, rfl⟩, eM_5⟩ := hp_6
  rw [eM_5] at hM
  obtain ⟨z1, qq1, gg1, ee1, ff1, -⟩ := (hC8.ext (mm_Ext.rf M)).2.2.2.at hk1
  obtain rfl : z1 = a1 := Option.some.inj (ee1.symm.trans hb1)
  refine lv_astore hx hb dX1_made_33 hl (by decide) rfl (fun ls hl => ?_)
  replace hl : lv_has ls 7 [(5, .ref z1), (0, .ref o), (1, .int kd), (2, .int (nI k1)), (3, .int i2), (4, .int i3)] := hl
  refine lv_aload_n hx hb dX1_made_35 rfl (lv_at hl 1 rfl) ?_
  refine lv_iload_n hx hb dX1_made_36 rfl (lv_at hl 4 rfl) ?_
  refine mm_cutW (v0 := mm_b (kd == 11)) (pc2 := 48) (ls := ls) (rest := [.int i2, .ref o]) (M := M) (fun kk => ?_) (fun H locs hM hS => ?_) hM hS
  · skip
    refine lv_iload_n hx hb dX1_made_37 rfl (lv_at hl 2 rfl) ?_
    refine lv_bipush (v := 11) hx hb dX1_made_38 (by decide) ?_
    refine lv_icmp_ne (tgt := 47) hx hb dX1_made_40 (by decide) (fun c_7 => ?_) (fun c_7 => ?_)
    · skip
      refine lv_iconst (v := 0) hx hb dX1_made_47 (by decide) ?_
      exact kk _ _ _ hM hS (show (mm_b (kd == 11) : Int32) = 0 from by simp [mm_b, c_7]).symm
    · skip
      refine lv_iconst (v := 1) hx hb dX1_made_43 (by decide) ?_
      refine lv_goto (tgt := 48) hx hb dX1_made_44 (by decide) ?_
      exact kk _ _ _ hM hS (show (mm_b (kd == 11) : Int32) = 1 from by simp [mm_b, c_7]).symm
  refine mm_callV (As := [.int i2, .int (mm_b (kd == 11))]) (rest := []) ⟨hx, hb, hml, hown, hts⟩ hE hST hA (c_X1_partOf l Z htr (hC8.ext (mm_Ext.rf M))) (cwV 2 hts (lw_V q473 q475 qs5 q50 q476) rfl rfl rfl (by decide +kernel) ⟨(Nat.le_of_ble_eq_true rfl), (Nat.le_of_ble_eq_true rfl)⟩) hM hS mm_cX1 ho9 rfl hl.1 (Nat.le_of_ble_eq_true rfl) dX1_made_48 rfl ⟨(Nat.le_of_ble_eq_true rfl), (Nat.le_of_ble_eq_true rfl)⟩ (fun E ce q M9 H1 locs1 hp9 hM9 hS9 hce hcv hcl => mm_outx htab hlk hM9 hS9 hce hcv hcl (⟨Or.inr (Or.inl ⟨hcan, fun ps hps => by obtain ⟨t9, h6⟩ := pm_hd kd (nI k1) i2 i3; rw [h6] at hps; obtain ⟨k, hk, h8, h7⟩ := pt_p_2 hps; exact hp9.1 k hk h8 h7, hp9.2.1⟩), hp9.2.2 ▸ (mm_Ext.rf M)⟩) (Nat.le_of_ble_eq_true rfl) (Nat.le_of_ble_eq_true rfl)) (fun v_7 M_8 H locs hp_9 hM hS => ?_)
  obtain ⟨⟨k2, a2, hk2, rfl, hd2, hb2, rfl⟩, eM_8⟩ := hp_9
  rw [eM_8] at hM
  obtain ⟨z2, qq2, gg2, ee2, ff2, -⟩ := (hC8.ext (mm_Ext.rf M)).2.2.2.at hk2
  obtain rfl : z2 = a2 := Option.some.inj (ee2.symm.trans hb2)
  refine lv_astore hx hb dX1_made_51 hl (by decide) rfl (fun ls hl => ?_)
  replace hl : lv_has ls 7 [(6, .ref z2), (5, .ref z1), (0, .ref o), (1, .int kd), (2, .int (nI k1)), (3, .int (nI k2)), (4, .int i3)] := hl
  refine lv_iload_n hx hb dX1_made_53 rfl (lv_at hl 3 rfl) ?_
  refine lv_bipush (v := 12) hx hb dX1_made_54 (by decide) ?_
  refine lv_icmp_ne (tgt := 93) hx hb dX1_made_56 (by decide) (fun c_10 => ?_) (fun c_10 => ?_)
  · have h2 : (kd == 12) = false := by simp [c_10]
    have hsp : pm_spec kd (nI k1) (nI k2) i3 = [(false, nI k1), (kd == 11, nI k2)] := by unfold pm_spec; rw [h2]
    refine lv_aload_n hx hb dX1_made_93 rfl (lv_at hl 2 rfl) ?_
    refine lv_iload_n hx hb dX1_made_94 rfl (lv_at hl 3 rfl) ?_
    refine lv_iconst (v := 0) hx hb dX1_made_95 (by decide) ?_
    refine lv_iconst (v := 0) hx hb dX1_made_96 (by decide) ?_
    refine lv_iconst (v := 2) hx hb dX1_made_97 (by decide) ?_
    refine mm_newq hx hb hown (hts _ q270) (hE.2.2.2.2.1 _ (by decide)) hE.1 hM hS hA 4 rfl (by decide) (show Int32.toNatClampNeg 2 = 2 from by decide) (by decide) (Nat.le_of_ble_eq_true rfl) (Nat.le_of_ble_eq_true rfl) dX1_made_98 (fun q_11 H nq_12 hM hS => ?_)
    have hM : mm_P Z.1 mm_cl A (mm_U M q_11 (.inl (Z.2.1 4, 2, .inr (.inr (.inr (.inr (fun _ => none))))))) H := hM
    have ne_13 : o ≠ q_11 := (mm_neN ho9 nq_12)
    have ne_14 : z1 ≠ q_11 := (mm_neN ff1 nq_12)
    have ne_15 : z2 ≠ q_11 := (mm_neN ff2 nq_12)
    have hc_16 : (mm_U M q_11 (.inl (Z.2.1 4, 2, .inr (.inr (.inr (.inr (fun _ => none))))))) q_11 = some (.inl (Z.2.1 4, 2, .inr (.inr (.inr (.inr (fun _ => none)))))) := mm_U_eq
    have hc_17 : (mm_U M q_11 (.inl (Z.2.1 4, 2, .inr (.inr (.inr (.inr (fun _ => none))))))) o = some (.inr (0, [.ref tl, .int er, .int st, va_rf rs])) := (mm_U_ne ne_13).trans ho9
    have hc_18 : (mm_U M q_11 (.inl (Z.2.1 4, 2, .inr (.inr (.inr (.inr (fun _ => none))))))) z1 = some (.inr (2, [.int (nI k1), .int (T[k1].1), .int (T[k1].2.1), .int (T[k1].2.2.1), .ref qq1, .int (nI T[k1].2.2.2.2), va_rf (F k1)])) := (mm_U_ne ne_14).trans ff1
    have hc_19 : (mm_U M q_11 (.inl (Z.2.1 4, 2, .inr (.inr (.inr (.inr (fun _ => none))))))) z2 = some (.inr (2, [.int (nI k2), .int (T[k2].1), .int (T[k2].2.1), .int (T[k2].2.2.1), .ref qq2, .int (nI T[k2].2.2.2.2), va_rf (F k2)])) := (mm_U_ne ne_15).trans ff2
    obtain ⟨M_20, eM_20⟩ : ∃ z, z = mm_U M q_11 (.inl (Z.2.1 4, 2, .inr (.inr (.inr (.inr (fun _ => none)))))) := ⟨_, rfl⟩
    rw [← eM_20] at hM hc_17 hc_18 hc_19 hc_16
    have hex_21 : mm_Ext M M_20 := by rw [eM_20]; exact mm_Ext.U nq_12
    refine lv_dup hx hb dX1_made_101 rfl ?_
    refine lv_iconst (v := 0) hx hb dX1_made_102 (by decide) ?_
    refine lv_aload hx hb dX1_made_103 (lv_at hl 1 rfl) ?_
    refine mm_aastT (k := 0) hx hb hE hM hS 4 2 hc_16 rfl hc_18 mm_cX3 (by decide) (by decide) (by decide) dX1_made_105 (fun H locs hM hS => ?_)
    have hM : mm_P Z.1 mm_cl A (mm_U M_20 q_11 (.inl (Z.2.1 4, 2, .inr (.inr (.inr (.inr (va_up (fun _ => none) 0 (some z1)))))))) H := hM
    have hc_22 : (mm_U M_20 q_11 (.inl (Z.2.1 4, 2, .inr (.inr (.inr (.inr (va_up (fun _ => none) 0 (some z1)))))))) q_11 = some (.inl (Z.2.1 4, 2, .inr (.inr (.inr (.inr (va_up (fun _ => none) 0 (some z1))))))) := mm_U_eq
    have hc_23 : (mm_U M_20 q_11 (.inl (Z.2.1 4, 2, .inr (.inr (.inr (.inr (va_up (fun _ => none) 0 (some z1)))))))) o = some (.inr (0, [.ref tl, .int er, .int st, va_rf rs])) := (mm_U_ne ne_13).trans hc_17
    have hc_24 : (mm_U M_20 q_11 (.inl (Z.2.1 4, 2, .inr (.inr (.inr (.inr (va_up (fun _ => none) 0 (some z1)))))))) z1 = some (.inr (2, [.int (nI k1), .int (T[k1].1), .int (T[k1].2.1), .int (T[k1].2.2.1), .ref qq1, .int (nI T[k1].2.2.2.2), va_rf (F k1)])) := (mm_U_ne ne_14).trans hc_18
    have hc_25 : (mm_U M_20 q_11 (.inl (Z.2.1 4, 2, .inr (.inr (.inr (.inr (va_up (fun _ => none) 0 (some z1)))))))) z2 = some (.inr (2, [.int (nI k2), .int (T[k2].1), .int (T[k2].2.1), .int (T[k2].2.2.1), .ref qq2, .int (nI T[k2].2.2.2.2), va_rf (F k2)])) := (mm_U_ne ne_15).trans hc_19
    obtain ⟨M_26, eM_26⟩ : ∃ z, z = mm_U M_20 q_11 (.inl (Z.2.1 4, 2, .inr (.inr (.inr (.inr (va_up (fun _ => none) 0 (some z1))))))) := ⟨_, rfl⟩
    rw [← eM_26] at hM hc_23 hc_24 hc_25 hc_22
    have hex_27 : mm_Ext M M_26 := by rw [eM_26]; exact (hex_21).UU nq_12
    refine lv_dup hx hb dX1_made_106 rfl ?_
    refine lv_iconst (v := 1) hx hb dX1_made_107 (by decide) ?_
    refine lv_aload hx hb dX1_made_108 (lv_at hl 0 rfl) ?_
    refine mm_aastT (k := 1) hx hb hE hM hS 4 2 hc_22 rfl hc_25 mm_cX3 (by decide) (by decide) (by decide) dX1_made_110 (fun H locs hM hS => ?_)
    have hM : mm_P Z.1 mm_cl A (mm_U M_26 q_11 (.inl (Z.2.1 4, 2, .inr (.inr (.inr (.inr (va_up (va_up (fun _ => none) 0 (some z1)) 1 (some z2)))))))) H := hM
    have hc_28 : (mm_U M_26 q_11 (.inl (Z.2.1 4, 2, .inr (.inr (.inr (.inr (va_up (va_up (fun _ => none) 0 (some z1)) 1 (some z2)))))))) q_11 = some (.inl (Z.2.1 4, 2, .inr (.inr (.inr (.inr (va_up (va_up (fun _ => none) 0 (some z1)) 1 (some z2))))))) := mm_U_eq
    have hc_29 : (mm_U M_26 q_11 (.inl (Z.2.1 4, 2, .inr (.inr (.inr (.inr (va_up (va_up (fun _ => none) 0 (some z1)) 1 (some z2)))))))) o = some (.inr (0, [.ref tl, .int er, .int st, va_rf rs])) := (mm_U_ne ne_13).trans hc_23
    have hc_30 : (mm_U M_26 q_11 (.inl (Z.2.1 4, 2, .inr (.inr (.inr (.inr (va_up (va_up (fun _ => none) 0 (some z1)) 1 (some z2)))))))) z1 = some (.inr (2, [.int (nI k1), .int (T[k1].1), .int (T[k1].2.1), .int (T[k1].2.2.1), .ref qq1, .int (nI T[k1].2.2.2.2), va_rf (F k1)])) := (mm_U_ne ne_14).trans hc_24
    have hc_31 : (mm_U M_26 q_11 (.inl (Z.2.1 4, 2, .inr (.inr (.inr (.inr (va_up (va_up (fun _ => none) 0 (some z1)) 1 (some z2)))))))) z2 = some (.inr (2, [.int (nI k2), .int (T[k2].1), .int (T[k2].2.1), .int (T[k2].2.2.1), .ref qq2, .int (nI T[k2].2.2.2.2), va_rf (F k2)])) := (mm_U_ne ne_15).trans hc_25
    obtain ⟨M_32, eM_32⟩ : ∃ z, z = mm_U M_26 q_11 (.inl (Z.2.1 4, 2, .inr (.inr (.inr (.inr (va_up (va_up (fun _ => none) 0 (some z1)) 1 (some z2))))))) := ⟨_, rfl⟩
    rw [← eM_32] at hM hc_29 hc_30 hc_31 hc_28
    have hex_33 : mm_Ext M M_32 := by rw [eM_32]; exact (hex_27).UU nq_12
    refine mm_callV (As := [.int kd, .int 0, .int 0, .ref q_11]) (rest := []) ⟨hx, hb, hml, hown, hts⟩ hE hST hA (c_X1_add l Z htr (ps := [k1, k2]) (hC8.ext hex_33) hc_28 (ct_ps2 hk1 hb1 hk2 hb2) (by decide : 2 ≤ 3)) (cwV 4 hts (lw_V q272 q274 qs1 q50 q275) rfl rfl rfl (by decide +kernel) ⟨(Nat.le_of_ble_eq_true rfl), (Nat.le_of_ble_eq_true rfl)⟩) hM hS mm_cX1 hc_29 rfl hl.1 (Nat.le_of_ble_eq_true rfl) dX1_made_111 rfl ⟨(Nat.le_of_ble_eq_true rfl), (Nat.le_of_ble_eq_true rfl)⟩ (fun E ce q M9 H1 locs1 hp9 hM9 hS9 hce hcv hcl => mm_outx htab hlk hM9 hS9 hce hcv hcl (⟨Or.inr (Or.inr ⟨hcan, [k1, k2], (by rw [hsp]; exact ⟨⟨hk1, rfl, hd1⟩, ⟨hk2, rfl, hd2⟩, trivial⟩), hp9.1, hp9.2.1⟩), hex_33.trans hp9.2.2⟩) (Nat.le_of_ble_eq_true rfl) (Nat.le_of_ble_eq_true rfl)) (fun v_34 M_35 H locs hp_36 hM hS => ?_)
    obtain ⟨hok, rfl, hco, hfr⟩ := hp_36
    exact mm_reti hx hb hr hlk hM hS ⟨hcan, [k1, k2], (by rw [hsp]; exact ⟨⟨hk1, rfl, hd1⟩, ⟨hk2, rfl, hd2⟩, trivial⟩), hok, rfl, hco, fun q h1 h2 h3 => (hfr q (by rw [hex_33 q h1]; exact h1) h2 h3).trans (hex_33 q h1)⟩ dX1_made_114 (Nat.le_of_ble_eq_true rfl) (Nat.le_of_ble_eq_true rfl)
  · have h2 : (kd == 12) = true := by simp [c_10]
    have hsp : ∀ i3 : Int32, pm_spec kd (nI k1) (nI k2) i3 = [(false, nI k1), (kd == 11, nI k2), (false, i3)] := by intro i3; unfold pm_spec; rw [h2]
    refine lv_aload_n hx hb dX1_made_59 rfl (lv_at hl 2 rfl) ?_
    refine lv_iload_n hx hb dX1_made_60 rfl (lv_at hl 3 rfl) ?_
    refine lv_iconst (v := 0) hx hb dX1_made_61 (by decide) ?_
    refine lv_iconst (v := 0) hx hb dX1_made_62 (by decide) ?_
    refine lv_iconst (v := 3) hx hb dX1_made_63 (by decide) ?_
    refine mm_newq hx hb hown (hts _ q270) (hE.2.2.2.2.1 _ (by decide)) hE.1 hM hS hA 4 rfl (by decide) (show Int32.toNatClampNeg 3 = 3 from by decide) (by decide) (Nat.le_of_ble_eq_true rfl) (Nat.le_of_ble_eq_true rfl) dX1_made_64 (fun q_11 H nq_12 hM hS => ?_)
    have hM : mm_P Z.1 mm_cl A (mm_U M q_11 (.inl (Z.2.1 4, 3, .inr (.inr (.inr (.inr (fun _ => none))))))) H := hM
    have ne_13 : o ≠ q_11 := (mm_neN ho9 nq_12)
    have ne_14 : z1 ≠ q_11 := (mm_neN ff1 nq_12)
    have ne_15 : z2 ≠ q_11 := (mm_neN ff2 nq_12)
    have hc_16 : (mm_U M q_11 (.inl (Z.2.1 4, 3, .inr (.inr (.inr (.inr (fun _ => none))))))) q_11 = some (.inl (Z.2.1 4, 3, .inr (.inr (.inr (.inr (fun _ => none)))))) := mm_U_eq
    have hc_17 : (mm_U M q_11 (.inl (Z.2.1 4, 3, .inr (.inr (.inr (.inr (fun _ => none))))))) o = some (.inr (0, [.ref tl, .int er, .int st, va_rf rs])) := (mm_U_ne ne_13).trans ho9
    have hc_18 : (mm_U M q_11 (.inl (Z.2.1 4, 3, .inr (.inr (.inr (.inr (fun _ => none))))))) z1 = some (.inr (2, [.int (nI k1), .int (T[k1].1), .int (T[k1].2.1), .int (T[k1].2.2.1), .ref qq1, .int (nI T[k1].2.2.2.2), va_rf (F k1)])) := (mm_U_ne ne_14).trans ff1
    have hc_19 : (mm_U M q_11 (.inl (Z.2.1 4, 3, .inr (.inr (.inr (.inr (fun _ => none))))))) z2 = some (.inr (2, [.int (nI k2), .int (T[k2].1), .int (T[k2].2.1), .int (T[k2].2.2.1), .ref qq2, .int (nI T[k2].2.2.2.2), va_rf (F k2)])) := (mm_U_ne ne_15).trans ff2
    obtain ⟨M_20, eM_20⟩ : ∃ z, z = mm_U M q_11 (.inl (Z.2.1 4, 3, .inr (.inr (.inr (.inr (fun _ => none)))))) := ⟨_, rfl⟩
    rw [← eM_20] at hM hc_17 hc_18 hc_19 hc_16
    have hex_21 : mm_Ext M M_20 := by rw [eM_20]; exact mm_Ext.U nq_12
    refine lv_dup hx hb dX1_made_67 rfl ?_
    refine lv_iconst (v := 0) hx hb dX1_made_68 (by decide) ?_
    refine lv_aload hx hb dX1_made_69 (lv_at hl 1 rfl) ?_
    refine mm_aastT (k := 0) hx hb hE hM hS 4 2 hc_16 rfl hc_18 mm_cX3 (by decide) (by decide) (by decide) dX1_made_71 (fun H locs hM hS => ?_)
    have hM : mm_P Z.1 mm_cl A (mm_U M_20 q_11 (.inl (Z.2.1 4, 3, .inr (.inr (.inr (.inr (va_up (fun _ => none) 0 (some z1)))))))) H := hM
    have hc_22 : (mm_U M_20 q_11 (.inl (Z.2.1 4, 3, .inr (.inr (.inr (.inr (va_up (fun _ => none) 0 (some z1)))))))) q_11 = some (.inl (Z.2.1 4, 3, .inr (.inr (.inr (.inr (va_up (fun _ => none) 0 (some z1))))))) := mm_U_eq
    have hc_23 : (mm_U M_20 q_11 (.inl (Z.2.1 4, 3, .inr (.inr (.inr (.inr (va_up (fun _ => none) 0 (some z1)))))))) o = some (.inr (0, [.ref tl, .int er, .int st, va_rf rs])) := (mm_U_ne ne_13).trans hc_17
    have hc_24 : (mm_U M_20 q_11 (.inl (Z.2.1 4, 3, .inr (.inr (.inr (.inr (va_up (fun _ => none) 0 (some z1)))))))) z1 = some (.inr (2, [.int (nI k1), .int (T[k1].1), .int (T[k1].2.1), .int (T[k1].2.2.1), .ref qq1, .int (nI T[k1].2.2.2.2), va_rf (F k1)])) := (mm_U_ne ne_14).trans hc_18
    have hc_25 : (mm_U M_20 q_11 (.inl (Z.2.1 4, 3, .inr (.inr (.inr (.inr (va_up (fun _ => none) 0 (some z1)))))))) z2 = some (.inr (2, [.int (nI k2), .int (T[k2].1), .int (T[k2].2.1), .int (T[k2].2.2.1), .ref qq2, .int (nI T[k2].2.2.2.2), va_rf (F k2)])) := (mm_U_ne ne_15).trans hc_19
    obtain ⟨M_26, eM_26⟩ : ∃ z, z = mm_U M_20 q_11 (.inl (Z.2.1 4, 3, .inr (.inr (.inr (.inr (va_up (fun _ => none) 0 (some z1))))))) := ⟨_, rfl⟩
    rw [← eM_26] at hM hc_23 hc_24 hc_25 hc_22
    have hex_27 : mm_Ext M M_26 := by rw [eM_26]; exact (hex_21).UU nq_12
    refine lv_dup hx hb dX1_made_72 rfl ?_
    refine lv_iconst (v := 1) hx hb dX1_made_73 (by decide) ?_
    refine lv_aload hx hb dX1_made_74 (lv_at hl 0 rfl) ?_
    refine mm_aastT (k := 1) hx hb hE hM hS 4 2 hc_22 rfl hc_25 mm_cX3 (by decide) (by decide) (by decide) dX1_made_76 (fun H locs hM hS => ?_)
    have hM : mm_P Z.1 mm_cl A (mm_U M_26 q_11 (.inl (Z.2.1 4, 3, .inr (.inr (.inr (.inr (va_up (va_up (fun _ => none) 0 (some z1)) 1 (some z2)))))))) H := hM
    have hc_28 : (mm_U M_26 q_11 (.inl (Z.2.1 4, 3, .inr (.inr (.inr (.inr (va_up (va_up (fun _ => none) 0 (some z1)) 1 (some z2)))))))) q_11 = some (.inl (Z.2.1 4, 3, .inr (.inr (.inr (.inr (va_up (va_up (fun _ => none) 0 (some z1)) 1 (some z2))))))) := mm_U_eq
    have hc_29 : (mm_U M_26 q_11 (.inl (Z.2.1 4, 3, .inr (.inr (.inr (.inr (va_up (va_up (fun _ => none) 0 (some z1)) 1 (some z2)))))))) o = some (.inr (0, [.ref tl, .int er, .int st, va_rf rs])) := (mm_U_ne ne_13).trans hc_23
    have hc_30 : (mm_U M_26 q_11 (.inl (Z.2.1 4, 3, .inr (.inr (.inr (.inr (va_up (va_up (fun _ => none) 0 (some z1)) 1 (some z2)))))))) z1 = some (.inr (2, [.int (nI k1), .int (T[k1].1), .int (T[k1].2.1), .int (T[k1].2.2.1), .ref qq1, .int (nI T[k1].2.2.2.2), va_rf (F k1)])) := (mm_U_ne ne_14).trans hc_24
    have hc_31 : (mm_U M_26 q_11 (.inl (Z.2.1 4, 3, .inr (.inr (.inr (.inr (va_up (va_up (fun _ => none) 0 (some z1)) 1 (some z2)))))))) z2 = some (.inr (2, [.int (nI k2), .int (T[k2].1), .int (T[k2].2.1), .int (T[k2].2.2.1), .ref qq2, .int (nI T[k2].2.2.2.2), va_rf (F k2)])) := (mm_U_ne ne_15).trans hc_25
    obtain ⟨M_32, eM_32⟩ : ∃ z, z = mm_U M_26 q_11 (.inl (Z.2.1 4, 3, .inr (.inr (.inr (.inr (va_up (va_up (fun _ => none) 0 (some z1)) 1 (some z2))))))) := ⟨_, rfl⟩
    rw [← eM_32] at hM hc_29 hc_30 hc_31 hc_28
    have hex_33 : mm_Ext M M_32 := by rw [eM_32]; exact (hex_27).UU nq_12
    refine lv_dup hx hb dX1_made_77 rfl ?_
    refine lv_iconst (v := 2) hx hb dX1_made_78 (by decide) ?_
    refine lv_aload_n hx hb dX1_made_79 rfl (lv_at hl 2 rfl) ?_
    refine lv_iload hx hb dX1_made_80 (lv_at hl 6 rfl) ?_
    refine lv_iconst (v := 0) hx hb dX1_made_82 (by decide) ?_
    refine mm_callV (As := [.int i3, .int (mm_b false)]) (rest := [.int 2, .ref q_11, .ref q_11, .int 0, .int 0, .int kd, .ref o]) ⟨hx, hb, hml, hown, hts⟩ hE hST hA (c_X1_partOf l Z htr (hC8.ext hex_33)) (cwV 2 hts (lw_V q473 q475 qs5 q50 q476) rfl rfl rfl (by decide +kernel) ⟨(Nat.le_of_ble_eq_true rfl), (Nat.le_of_ble_eq_true rfl)⟩) hM hS mm_cX1 hc_29 rfl hl.1 (Nat.le_of_ble_eq_true rfl) dX1_made_83 rfl ⟨(Nat.le_of_ble_eq_true rfl), (Nat.le_of_ble_eq_true rfl)⟩ (fun E ce q M9 H1 locs1 hp9 hM9 hS9 hce hcv hcl => mm_outx htab hlk hM9 hS9 hce hcv hcl (⟨Or.inr (Or.inl ⟨hcan, fun ps hps => by rw [hsp] at hps; obtain ⟨k, hk, h8, h7⟩ := pt_p_3 hps; exact hp9.1 k hk h8 h7, hp9.2.1⟩), hp9.2.2 ▸ hex_33⟩) (Nat.le_of_ble_eq_true rfl) (Nat.le_of_ble_eq_true rfl)) (fun v_34 M_35 H locs hp_36 hM hS => ?_)
    obtain ⟨⟨k3, a3, hk3, rfl, hd3, hb3, rfl⟩, eM_35⟩ := hp_36
    rw [eM_35] at hM
    obtain ⟨z3, qq3, gg3, ee3, ff3, -⟩ := (hC8.ext hex_33).2.2.2.at hk3
    obtain rfl : z3 = a3 := Option.some.inj (ee3.symm.trans hb3)
    refine mm_aastT (k := 2) hx hb hE hM hS 4 2 hc_28 rfl ff3 mm_cX3 (by decide) (by decide) (by decide) dX1_made_86 (fun H locs hM hS => ?_)
    have hM : mm_P Z.1 mm_cl A (mm_U M_32 q_11 (.inl (Z.2.1 4, 3, .inr (.inr (.inr (.inr (va_up (va_up (va_up (fun _ => none) 0 (some z1)) 1 (some z2)) 2 (some z3)))))))) H := hM
    have hc_37 : (mm_U M_32 q_11 (.inl (Z.2.1 4, 3, .inr (.inr (.inr (.inr (va_up (va_up (va_up (fun _ => none) 0 (some z1)) 1 (some z2)) 2 (some z3)))))))) q_11 = some (.inl (Z.2.1 4, 3, .inr (.inr (.inr (.inr (va_up (va_up (va_up (fun _ => none) 0 (some z1)) 1 (some z2)) 2 (some z3))))))) := mm_U_eq
    have hc_38 : (mm_U M_32 q_11 (.inl (Z.2.1 4, 3, .inr (.inr (.inr (.inr (va_up (va_up (va_up (fun _ => none) 0 (some z1)) 1 (some z2)) 2 (some z3)))))))) o = some (.inr (0, [.ref tl, .int er, .int st, va_rf rs])) := (mm_U_ne ne_13).trans hc_29
    have hc_39 : (mm_U M_32 q_11 (.inl (Z.2.1 4, 3, .inr (.inr (.inr (.inr (va_up (va_up (va_up (fun _ => none) 0 (some z1)) 1 (some z2)) 2 (some z3)))))))) z1 = some (.inr (2, [.int (nI k1), .int (T[k1].1), .int (T[k1].2.1), .int (T[k1].2.2.1), .ref qq1, .int (nI T[k1].2.2.2.2), va_rf (F k1)])) := (mm_U_ne ne_14).trans hc_30
    have hc_40 : (mm_U M_32 q_11 (.inl (Z.2.1 4, 3, .inr (.inr (.inr (.inr (va_up (va_up (va_up (fun _ => none) 0 (some z1)) 1 (some z2)) 2 (some z3)))))))) z2 = some (.inr (2, [.int (nI k2), .int (T[k2].1), .int (T[k2].2.1), .int (T[k2].2.2.1), .ref qq2, .int (nI T[k2].2.2.2.2), va_rf (F k2)])) := (mm_U_ne ne_15).trans hc_31
    have hc_41 : (mm_U M_32 q_11 (.inl (Z.2.1 4, 3, .inr (.inr (.inr (.inr (va_up (va_up (va_up (fun _ => none) 0 (some z1)) 1 (some z2)) 2 (some z3)))))))) z3 = some (.inr (2, [.int (nI k3), .int (T[k3].1), .int (T[k3].2.1), .int (T[k3].2.2.1), .ref qq3, .int (nI T[k3].2.2.2.2), va_rf (F k3)])) := (mm_U_ne (Ne.symm (mm_neA hc_28 ff3))).trans ff3
    obtain ⟨M_42, eM_42⟩ : ∃ z, z = mm_U M_32 q_11 (.inl (Z.2.1 4, 3, .inr (.inr (.inr (.inr (va_up (va_up (va_up (fun _ => none) 0 (some z1)) 1 (some z2)) 2 (some z3))))))) := ⟨_, rfl⟩
    rw [← eM_42] at hM hc_38 hc_39 hc_40 hc_37 hc_41
    have hex_43 : mm_Ext M M_42 := by rw [eM_42]; exact (hex_33).UU nq_12
    refine mm_callV (As := [.int kd, .int 0, .int 0, .ref q_11]) (rest := []) ⟨hx, hb, hml, hown, hts⟩ hE hST hA (c_X1_add l Z htr (ps := [k1, k2, k3]) (hC8.ext hex_43) hc_37 (ct_ps3 hk1 hb1 hk2 hb2 hk3 hb3) (by decide : 3 ≤ 3)) (cwV 4 hts (lw_V q272 q274 qs1 q50 q275) rfl rfl rfl (by decide +kernel) ⟨(Nat.le_of_ble_eq_true rfl), (Nat.le_of_ble_eq_true rfl)⟩) hM hS mm_cX1 hc_38 rfl hl.1 (Nat.le_of_ble_eq_true rfl) dX1_made_87 rfl ⟨(Nat.le_of_ble_eq_true rfl), (Nat.le_of_ble_eq_true rfl)⟩ (fun E ce q M9 H1 locs1 hp9 hM9 hS9 hce hcv hcl => mm_outx htab hlk hM9 hS9 hce hcv hcl (⟨Or.inr (Or.inr ⟨hcan, [k1, k2, k3], (by rw [hsp]; exact ⟨⟨hk1, rfl, hd1⟩, ⟨hk2, rfl, hd2⟩, ⟨hk3, rfl, hd3⟩, trivial⟩), hp9.1, hp9.2.1⟩), hex_43.trans hp9.2.2⟩) (Nat.le_of_ble_eq_true rfl) (Nat.le_of_ble_eq_true rfl)) (fun v_44 M_45 H locs hp_46 hM hS => ?_)
    obtain ⟨hok, rfl, hco, hfr⟩ := hp_46
    refine lv_goto (tgt := 114) hx hb dX1_made_90 (by decide) ?_
    exact mm_reti hx hb hr hlk hM hS ⟨hcan, [k1, k2, k3], (by rw [hsp]; exact ⟨⟨hk1, rfl, hd1⟩, ⟨hk2, rfl, hd2⟩, ⟨hk3, rfl, hd3⟩, trivial⟩), hok, rfl, hco, fun q h1 h2 h3 => (hfr q (by rw [hex_43 q h1]; exact h1) h2 h3).trans (hex_43 q h1)⟩ dX1_made_114 (Nat.le_of_ble_eq_true rfl) (Nat.le_of_ble_eq_true rfl)
