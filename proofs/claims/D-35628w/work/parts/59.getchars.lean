/-! ===== Integer.getChars; append(int) ===== -/
set_option maxRecDepth 100000
/-- the builder's signs with ds laid before place e -/
def gw (cs : List Nat) (e : Nat) (ds : List Nat) : Nat → Int32 := fun k => if e - ds.length ≤ k ∧ k < e then nI (ds.getD (k - (e - ds.length)) 0) else tb_f cs k
theorem gw_nil {cs : List Nat} {e : Nat} : gw cs e [] = tb_f cs := by
  funext k; unfold gw; rw [if_neg (by rw [List.length_nil]; omega)]
theorem gw_put {cs ds : List Nat} {e d : Nat} (h : ds.length < e) : upd (gw cs e ds) (e - (ds.length + 1)) (nI d) = gw cs e (d :: ds) := by
  funext k
  unfold upd gw
  by_cases hk : k = e - (ds.length + 1)
  · subst hk
    rw [if_pos rfl, if_pos (by simp; omega)]
    simp
  · rw [if_neg hk]
    by_cases h2 : e - ds.length ≤ k ∧ k < e
    · rw [if_pos h2, if_pos (by simp; omega)]
      congr 1
      rw [show k - (e - (d :: ds).length) = k - (e - ds.length) + 1 by simp; omega]
      simp
    · rw [if_neg h2, if_neg (by simp; omega)]
theorem gw_all {cs ds : List Nat} : gw cs (cs.length + ds.length) ds = tb_f (cs ++ ds) := by
  funext k
  unfold gw tb_f
  by_cases h1 : k < cs.length
  · rw [if_neg (by omega)]
    simp [List.getD_eq_getElem?_getD, List.getElem?_append_left h1]
  · by_cases h2 : k < cs.length + ds.length
    · rw [if_pos (by omega)]
      simp [List.getD_eq_getElem?_getD, List.getElem?_append_right (Nat.le_of_not_lt h1)]
    · rw [if_neg (by omega), List.getD_eq_getElem?_getD, List.getD_eq_getElem?_getD, List.getElem?_eq_none (by omega), List.getElem?_eq_none (by simp; omega)]
/-- the digits' tables -/
def dg_T (Z : mm_G) (M : mm_M) : Prop := ∃ d1 d2 : Nat → Int32, M (Z.2.2.1 3) = some (.inl (Z.2.1 1, 100, .inl d1)) ∧ M (Z.2.2.1 4) = some (.inl (Z.2.1 1, 100, .inl d2)) ∧ ∀ r, r < 100 → d1 r = nI (48 + r % 10) ∧ d2 r = nI (48 + r / 10)

set_option maxHeartbeats 4000000 in
set_option maxRecDepth 100000 in
theorem c_J21_getChars (l : Launch) (Z : mm_G) {M : mm_M} {b : Bool} {n : Nat} (hb9 : sg_ok b n) {ar cap e0 : Nat} {cs : List Nat} (ha9 : M ar = some (tb_A Z cap (tb_f cs))) (he9 : e0 = cs.length + (dgs b n).length) (hc9 : e0 ≤ cap) (hcap : cap < 2 ^ 20) (hT9 : dg_T Z M) (hn3 : ar ≠ Z.2.2.1 3) (hn4 : ar ≠ Z.2.2.1 4) : mm_C l Z yJ21_getChars (ws_ yJ21_getChars cJ21_getChars 7 (some .int)) { frames := 0, cells := 0, slots := 0, locals := 0 } [.int (sg b n), .int (nI e0), .ref ar] M (fun v M' => v = some (.int (nI cs.length)) ∧ M' ar = some (tb_A Z cap (tb_f (cs ++ dgs b n))) ∧ ∀ q, q ≠ ar → M' q = M q) mm_nx := by
  refine mm_ofW (cc := cJ21_getChars) (maxL := 7) (ret := (some .int)) (by decide) rfl (Nat.le_of_ble_eq_true rfl) ?_
  intro p e s m below meth c A ls hx hb hr hlk hml hown hmn hts htab hE hST hA hM hS hl
  replace hl : lv_has ls 7 [(0, .int (sg b n)), (1, .int (nI e0)), (2, .ref ar)] := hl
  obtain ⟨hn, hp, hq⟩ := hb9
  obtain ⟨d1, d2, h3, h4, hd⟩ := hT9
  cases b
  · skip
    have hl5 : 0 + (dg 5 n).length = (dgs false n).length := by simp [dgs]
    refine lv_iload_n hx hb dJ21_getChars_0 rfl (lv_at hl 1 rfl) ?_
    refine lv_istore hx hb dJ21_getChars_1 hl (by decide) rfl (fun ls hl => ?_)
    replace hl : lv_has ls 7 [(5, .int (nI e0)), (0, .int (nI n)), (1, .int (nI e0)), (2, .ref ar)] := hl
    refine lv_iload_n hx hb dJ21_getChars_3 rfl (lv_at hl 1 rfl) ?_
    refine lv_if_ge (tgt := 11) hx hb dJ21_getChars_4 (by decide) (fun _ => ?_) (fun h9 => absurd (nI_pos' (hq rfl)) h9)
    refine lv_iconst (v := 0) hx hb dJ21_getChars_11 (by decide) ?_
    refine lv_istore hx hb dJ21_getChars_12 hl (by decide) rfl (fun ls hl => ?_)
    replace hl : lv_has ls 7 [(6, .int 0), (5, .int (nI e0)), (0, .int (nI n)), (1, .int (nI e0)), (2, .ref ar)] := hl
    refine lv_iload hx hb dJ21_getChars_14 (lv_at hl 0 rfl) ?_
    refine lv_if_ne (tgt := 22) hx hb dJ21_getChars_16 (by decide) (fun h9 => absurd (by decide) h9) (fun _ => ?_)
    refine lv_iload_n hx hb dJ21_getChars_19 rfl (lv_at hl 2 rfl) ?_
    refine lv_ineg hx hb dJ21_getChars_20 ?_
    rw [show (-(nI n) : Int32) = nn n from rfl]
    refine lv_istore_n hx hb dJ21_getChars_21 rfl hl (by decide) rfl (fun ls hl => ?_)
    replace hl : lv_has ls 7 [(0, .int (nn n)), (6, .int 0), (5, .int (nI e0)), (1, .int (nI e0)), (2, .ref ar)] := hl
    refine mm_loopW (fun k M' ls cells slots => ∃ (n' : Nat) (ds : List Nat), n' < 100 ^ k ∧ n' ≤ 2 ^ 31 ∧ 0 < k ∧ dg k n' ++ ds = dg 5 n ∧ lv_has ls 7 [(0, .int (nn n')), (2, .ref ar), (5, .int (nI (e0 - ds.length))), (6, .int (mm_b false))] ∧ M' ar = some (tb_A Z cap (gw cs e0 ds)) ∧ (∀ q, q ≠ ar → M' q = M q) ∧ cells ≤ 0 ∧ slots ≤ 0) (fun k M3 ls H locs cells slots ih hI hM hS => ?_) (k := 5) ⟨n, [], by omega, hn, by omega, by simp, lv_sub hl [0, 4, 2, 1] rfl, by rw [gw_nil]; exact ha9, fun _ _ => rfl, by (try dsimp only); omega, by (try dsimp only); omega⟩ hM hS
    obtain ⟨n', ds, hf, hn', hk0, hL, hl, ha3, hk3, hc5, hc6⟩ := hI
    obtain ⟨f, rfl⟩ : ∃ f, k = f + 1 := ⟨k - 1, by omega⟩
    have hlen : (dg (f + 1) n').length + ds.length = (dg 5 n).length := by rw [← hL, List.length_append]
    have h3' := (hk3 _ (Ne.symm hn3)).trans h3
    have h4' := (hk3 _ (Ne.symm hn4)).trans h4
    refine lv_iload_n hx hb dJ21_getChars_22 rfl (lv_at hl 0 rfl) ?_
    refine lv_bipush (v := -100) hx hb dJ21_getChars_23 (by decide) ?_
    refine lv_icmp_gt (tgt := 72) hx hb dJ21_getChars_25 (by decide) (fun c_1 => ?_) (fun c_1 => ?_)
    · skip
      have hs : n' < 100 := Nat.lt_of_not_le (fun h6 => absurd ((nn_le hn' (by omega)).2 h6) (Int32.not_le.2 (by rw [show nn 100 = (-100 : Int32) from by decide]; exact c_1)))
      have hdl : ds.length + 1 ≤ e0 := by
        have h8 := @dg_small f n' hs
        have h9 : 1 ≤ (dg (f + 1) n').length := by rw [h8]; split <;> omega
        omega
      refine lv_aload_n hx hb dJ21_getChars_72 rfl (lv_at hl 1 rfl) ?_
      obtain ⟨x_2, ex_2⟩ : ∃ z : Int32, z = (nI (e0 - ds.length)) + (-1) := ⟨_, rfl⟩
      refine lv_iinc (v := x_2) (lv' := [(5, .int x_2), (0, .int (nn n')), (2, .ref ar), (6, .int (mm_b false))]) hx hb dJ21_getChars_73 hl (k := 2) rfl (by rw [ex_2]; rfl) (by decide) rfl (fun ls hl => ?_)
      rw [show x_2 = nI (e0 - (ds.length + 1)) from by rw [ex_2, show e0 - ds.length = e0 - (ds.length + 1) + 1 by omega]; exact nI_dec _] at hl
      refine lv_iload hx hb dJ21_getChars_76 (lv_at hl 0 rfl) ?_
      refine va_gets hx hb (hST.1 _ (List.mem_of_getElem? (i := 3) rfl)) hS hown (hts _ q1449) (fun _ h9 => h9) dJ21_getChars_78 ?_
      refine lv_iload_n hx hb dJ21_getChars_81 rfl (lv_at hl 1 rfl) ?_
      refine lv_ineg hx hb dJ21_getChars_82 ?_
      rw [show (-(nn n') : Int32) = nI n' from nn_neg]
      refine mm_baldK (k := n') hx hb hE hM h3' rfl hs (by decide) dJ21_getChars_83 ?_
      rw [show (d1 n' : Int32) = nI (48 + n' % 10) from (hd _ hs).1]
      refine mm_bastK (k := (e0 - (ds.length + 1))) hx hb hE hM hS ha3 rfl (by omega) (by omega) (tb_nar (by omega)) dJ21_getChars_84 (fun H locs hM hS => ?_)
      rw [show upd (gw cs e0 ds) (e0 - (ds.length + 1)) (nI (48 + n' % 10)) = gw cs e0 ((48 + n' % 10) :: ds) from gw_put (by omega)] at hM
      have hM : mm_P Z.1 mm_cl A (mm_U M3 ar (.inl (Z.2.1 1, cap, .inl (gw cs e0 ((48 + n' % 10) :: ds))))) H := hM
      have hc_3 : (mm_U M3 ar (.inl (Z.2.1 1, cap, .inl (gw cs e0 ((48 + n' % 10) :: ds))))) ar = some (.inl (Z.2.1 1, cap, .inl (gw cs e0 ((48 + n' % 10) :: ds)))) := mm_U_eq
      have hc_4 : (mm_U M3 ar (.inl (Z.2.1 1, cap, .inl (gw cs e0 ((48 + n' % 10) :: ds))))) (Z.2.2.1 3) = some (.inl (Z.2.1 1, 100, .inl d1)) := (mm_U_ne (Ne.symm hn3)).trans h3'
      have hc_5 : (mm_U M3 ar (.inl (Z.2.1 1, cap, .inl (gw cs e0 ((48 + n' % 10) :: ds))))) (Z.2.2.1 4) = some (.inl (Z.2.1 1, 100, .inl d2)) := (mm_U_ne (Ne.symm hn4)).trans h4'
      obtain ⟨M_6, eM_6⟩ : ∃ z, z = mm_U M3 ar (.inl (Z.2.1 1, cap, .inl (gw cs e0 ((48 + n' % 10) :: ds)))) := ⟨_, rfl⟩
      rw [← eM_6] at hM hc_3 hc_4 hc_5
      refine lv_iload_n hx hb dJ21_getChars_85 rfl (lv_at hl 1 rfl) ?_
      refine lv_bipush (v := -9) hx hb dJ21_getChars_86 (by decide) ?_
      refine lv_icmp_ge (tgt := 104) hx hb dJ21_getChars_88 (by decide) (fun c_7 => ?_) (fun c_7 => ?_)
      · skip
        · skip
          have hs2 : n' ≤ 9 := (nn_le (n := 9) (k := n') (by omega) hn').1 (by rw [show nn 9 = (-9 : Int32) from by decide]; exact c_7)
          have hds : ((48 + n' % 10) :: ds) = dg 5 n := by rw [← hL]; simp only [dg, if_neg (show ¬ 100 ≤ n' by omega), if_neg (show ¬ 10 ≤ n' by omega)]; rw [Nat.mod_eq_of_lt (by omega)]; rfl
          have hlx : (ds.length + 1) = (dg 5 n).length := by have h8 := congrArg List.length hds; simpa using h8
          refine lv_iload hx hb dJ21_getChars_104 (lv_at hl 3 rfl) ?_
          refine lv_if_eq (tgt := 118) hx hb dJ21_getChars_106 (by decide) (fun _ => ?_) (fun h9 => absurd (by decide) h9)
          refine lv_iload hx hb dJ21_getChars_118 (lv_at hl 0 rfl) ?_
          rw [show e0 - (ds.length + 1) = cs.length from by omega]
          exact mm_reti hx hb hr hlk hM hS ⟨rfl, by rw [hc_3, hds, he9, ← hl5, Nat.zero_add, gw_all]; rfl, fun q h9 => by rw [eM_6, mm_U_ne h9]; exact hk3 q h9⟩ dJ21_getChars_120 (by (try dsimp only); omega) (by (try dsimp only); omega)
      · skip
        have hs2 : 10 ≤ n' := Nat.lt_of_not_le (fun h6 => c_7 (by rw [show (-9 : Int32) = nn 9 from by decide]; exact (nn_le (by omega) hn').2 h6))
        have hdl3 : ds.length + 2 ≤ e0 := by have h8 := @dg_small f n' hs; rw [if_neg (by omega)] at h8; omega
        refine lv_aload_n hx hb dJ21_getChars_91 rfl (lv_at hl 2 rfl) ?_
        obtain ⟨x_8, ex_8⟩ : ∃ z : Int32, z = (nI (e0 - (ds.length + 1))) + (-1) := ⟨_, rfl⟩
        refine lv_iinc (v := x_8) (lv' := [(5, .int x_8), (0, .int (nn n')), (2, .ref ar), (6, .int (mm_b false))]) hx hb dJ21_getChars_92 hl (k := 0) rfl (by rw [ex_8]; rfl) (by decide) rfl (fun ls hl => ?_)
        rw [show x_8 = nI (e0 - (ds.length + 1 + 1)) from by rw [ex_8, show e0 - (ds.length + 1) = e0 - (ds.length + 1 + 1) + 1 by omega]; exact nI_dec _] at hl
        refine lv_iload hx hb dJ21_getChars_95 (lv_at hl 0 rfl) ?_
        refine va_gets hx hb (hST.1 _ (List.mem_of_getElem? (i := 4) rfl)) hS hown (hts _ q1451) (fun _ h9 => h9) dJ21_getChars_97 ?_
        refine lv_iload_n hx hb dJ21_getChars_100 rfl (lv_at hl 1 rfl) ?_
        refine lv_ineg hx hb dJ21_getChars_101 ?_
        rw [show (-(nn n') : Int32) = nI n' from nn_neg]
        refine mm_baldK (k := n') hx hb hE hM hc_5 rfl hs (by decide) dJ21_getChars_102 ?_
        rw [show (d2 n' : Int32) = nI (48 + n' / 10) from (hd _ hs).2]
        refine mm_bastK (k := (e0 - (ds.length + 1 + 1))) hx hb hE hM hS hc_3 rfl (by omega) (by omega) (tb_nar (by omega)) dJ21_getChars_103 (fun H locs hM hS => ?_)
        rw [show upd (gw cs e0 ((48 + n' % 10) :: ds)) (e0 - (ds.length + 1 + 1)) (nI (48 + n' / 10)) = gw cs e0 ((48 + n' / 10) :: (48 + n' % 10) :: ds) from gw_put (ds := (48 + n' % 10) :: ds) (by simp; omega)] at hM
        have hM : mm_P Z.1 mm_cl A (mm_U M_6 ar (.inl (Z.2.1 1, cap, .inl (gw cs e0 ((48 + n' / 10) :: (48 + n' % 10) :: ds))))) H := hM
        have hc_9 : (mm_U M_6 ar (.inl (Z.2.1 1, cap, .inl (gw cs e0 ((48 + n' / 10) :: (48 + n' % 10) :: ds))))) ar = some (.inl (Z.2.1 1, cap, .inl (gw cs e0 ((48 + n' / 10) :: (48 + n' % 10) :: ds)))) := mm_U_eq
        have hc_10 : (mm_U M_6 ar (.inl (Z.2.1 1, cap, .inl (gw cs e0 ((48 + n' / 10) :: (48 + n' % 10) :: ds))))) (Z.2.2.1 3) = some (.inl (Z.2.1 1, 100, .inl d1)) := (mm_U_ne (Ne.symm hn3)).trans hc_4
        have hc_11 : (mm_U M_6 ar (.inl (Z.2.1 1, cap, .inl (gw cs e0 ((48 + n' / 10) :: (48 + n' % 10) :: ds))))) (Z.2.2.1 4) = some (.inl (Z.2.1 1, 100, .inl d2)) := (mm_U_ne (Ne.symm hn4)).trans hc_5
        obtain ⟨M_12, eM_12⟩ : ∃ z, z = mm_U M_6 ar (.inl (Z.2.1 1, cap, .inl (gw cs e0 ((48 + n' / 10) :: (48 + n' % 10) :: ds)))) := ⟨_, rfl⟩
        rw [← eM_12] at hM hc_9 hc_10 hc_11
        have hds : ((48 + n' / 10) :: (48 + n' % 10) :: ds) = dg 5 n := by rw [← hL]; simp only [dg, if_neg (show ¬ 100 ≤ n' by omega), if_pos (show 10 ≤ n' by omega)]; rfl
        have hlx : (ds.length + 1 + 1) = (dg 5 n).length := by have h8 := congrArg List.length hds; simpa using h8
        refine lv_iload hx hb dJ21_getChars_104 (lv_at hl 3 rfl) ?_
        refine lv_if_eq (tgt := 118) hx hb dJ21_getChars_106 (by decide) (fun _ => ?_) (fun h9 => absurd (by decide) h9)
        refine lv_iload hx hb dJ21_getChars_118 (lv_at hl 0 rfl) ?_
        rw [show e0 - (ds.length + 1 + 1) = cs.length from by omega]
        exact mm_reti hx hb hr hlk hM hS ⟨rfl, by rw [hc_9, hds, he9, ← hl5, Nat.zero_add, gw_all]; rfl, fun q h9 => by rw [eM_12, mm_U_ne h9, eM_6, mm_U_ne h9]; exact hk3 q h9⟩ dJ21_getChars_120 (by (try dsimp only); omega) (by (try dsimp only); omega)
    · skip
      have hs : 100 ≤ n' := (nn_le hn' (by omega)).1 (by rw [show nn 100 = (-100 : Int32) from by decide]; exact Int32.not_lt.1 c_1)
      have hf0 : 0 < f := by rcases Nat.eq_zero_or_pos f with rfl | h; (simp at hf; omega); exact h
      have hdl : ds.length + 2 ≤ e0 := by have h8 := @dg_big f n' hs; omega
      refine lv_iload_n hx hb dJ21_getChars_28 rfl (lv_at hl 0 rfl) ?_
      refine lv_bipush (v := 100) hx hb dJ21_getChars_29 (by decide) ?_
      refine mm_idiv hx hb (by decide) dJ21_getChars_31 ?_
      rw [show (nn n' / 100 : Int32) = nn (n' / 100) from nn_div hn']
      refine lv_istore_n hx hb dJ21_getChars_32 rfl hl (by decide) rfl (fun ls hl => ?_)
      replace hl : lv_has ls 7 [(3, .int (nn (n' / 100))), (0, .int (nn n')), (2, .ref ar), (5, .int (nI (e0 - ds.length))), (6, .int (mm_b false))] := hl
      refine lv_iload_n hx hb dJ21_getChars_33 rfl (lv_at hl 0 rfl) ?_
      refine lv_bipush (v := 100) hx hb dJ21_getChars_34 (by decide) ?_
      refine lv_imul hx hb dJ21_getChars_36 ?_
      refine lv_iload_n hx hb dJ21_getChars_37 rfl (lv_at hl 1 rfl) ?_
      refine lv_isub hx hb dJ21_getChars_38 ?_
      rw [show (((nn (n' / 100)) * 100) - (nn n') : Int32) = nI (n' % 100) from nn_rem hn']
      have hm : n' % 100 < 100 := by omega
      refine lv_istore hx hb dJ21_getChars_39 hl (by decide) rfl (fun ls hl => ?_)
      replace hl : lv_has ls 7 [(4, .int (nI (n' % 100))), (3, .int (nn (n' / 100))), (0, .int (nn n')), (2, .ref ar), (5, .int (nI (e0 - ds.length))), (6, .int (mm_b false))] := hl
      refine lv_iload_n hx hb dJ21_getChars_41 rfl (lv_at hl 1 rfl) ?_
      refine lv_istore_n hx hb dJ21_getChars_42 rfl hl (by decide) rfl (fun ls hl => ?_)
      replace hl : lv_has ls 7 [(0, .int (nn (n' / 100))), (4, .int (nI (n' % 100))), (3, .int (nn (n' / 100))), (2, .ref ar), (5, .int (nI (e0 - ds.length))), (6, .int (mm_b false))] := hl
      refine lv_aload_n hx hb dJ21_getChars_43 rfl (lv_at hl 3 rfl) ?_
      obtain ⟨x_2, ex_2⟩ : ∃ z : Int32, z = (nI (e0 - ds.length)) + (-1) := ⟨_, rfl⟩
      refine lv_iinc (v := x_2) (lv' := [(5, .int x_2), (0, .int (nn (n' / 100))), (4, .int (nI (n' % 100))), (3, .int (nn (n' / 100))), (2, .ref ar), (6, .int (mm_b false))]) hx hb dJ21_getChars_44 hl (k := 4) rfl (by rw [ex_2]; rfl) (by decide) rfl (fun ls hl => ?_)
      rw [show x_2 = nI (e0 - (ds.length + 1)) from by rw [ex_2, show e0 - ds.length = e0 - (ds.length + 1) + 1 by omega]; exact nI_dec _] at hl
      refine lv_iload hx hb dJ21_getChars_47 (lv_at hl 0 rfl) ?_
      refine va_gets hx hb (hST.1 _ (List.mem_of_getElem? (i := 3) rfl)) hS hown (hts _ q1449) (fun _ h9 => h9) dJ21_getChars_49 ?_
      refine lv_iload hx hb dJ21_getChars_52 (lv_at hl 2 rfl) ?_
      refine mm_baldK (k := (n' % 100)) hx hb hE hM h3' rfl hm (by decide) dJ21_getChars_54 ?_
      rw [show (d1 (n' % 100) : Int32) = nI (48 + n' % 100 % 10) from (hd _ hm).1]
      refine mm_bastK (k := (e0 - (ds.length + 1))) hx hb hE hM hS ha3 rfl (by omega) (by omega) (tb_nar (by omega)) dJ21_getChars_55 (fun H locs hM hS => ?_)
      rw [show upd (gw cs e0 ds) (e0 - (ds.length + 1)) (nI (48 + n' % 100 % 10)) = gw cs e0 ((48 + n' % 100 % 10) :: ds) from gw_put (by omega)] at hM
      have hM : mm_P Z.1 mm_cl A (mm_U M3 ar (.inl (Z.2.1 1, cap, .inl (gw cs e0 ((48 + n' % 100 % 10) :: ds))))) H := hM
      have hc_3 : (mm_U M3 ar (.inl (Z.2.1 1, cap, .inl (gw cs e0 ((48 + n' % 100 % 10) :: ds))))) ar = some (.inl (Z.2.1 1, cap, .inl (gw cs e0 ((48 + n' % 100 % 10) :: ds)))) := mm_U_eq
      have hc_4 : (mm_U M3 ar (.inl (Z.2.1 1, cap, .inl (gw cs e0 ((48 + n' % 100 % 10) :: ds))))) (Z.2.2.1 3) = some (.inl (Z.2.1 1, 100, .inl d1)) := (mm_U_ne (Ne.symm hn3)).trans h3'
      have hc_5 : (mm_U M3 ar (.inl (Z.2.1 1, cap, .inl (gw cs e0 ((48 + n' % 100 % 10) :: ds))))) (Z.2.2.1 4) = some (.inl (Z.2.1 1, 100, .inl d2)) := (mm_U_ne (Ne.symm hn4)).trans h4'
      obtain ⟨M_6, eM_6⟩ : ∃ z, z = mm_U M3 ar (.inl (Z.2.1 1, cap, .inl (gw cs e0 ((48 + n' % 100 % 10) :: ds)))) := ⟨_, rfl⟩
      rw [← eM_6] at hM hc_3 hc_4 hc_5
      refine lv_aload_n hx hb dJ21_getChars_56 rfl (lv_at hl 4 rfl) ?_
      obtain ⟨x_7, ex_7⟩ : ∃ z : Int32, z = (nI (e0 - (ds.length + 1))) + (-1) := ⟨_, rfl⟩
      refine lv_iinc (v := x_7) (lv' := [(5, .int x_7), (0, .int (nn (n' / 100))), (4, .int (nI (n' % 100))), (3, .int (nn (n' / 100))), (2, .ref ar), (6, .int (mm_b false))]) hx hb dJ21_getChars_57 hl (k := 0) rfl (by rw [ex_7]; rfl) (by decide) rfl (fun ls hl => ?_)
      rw [show x_7 = nI (e0 - (ds.length + 1 + 1)) from by rw [ex_7, show e0 - (ds.length + 1) = e0 - (ds.length + 1 + 1) + 1 by omega]; exact nI_dec _] at hl
      refine lv_iload hx hb dJ21_getChars_60 (lv_at hl 0 rfl) ?_
      refine va_gets hx hb (hST.1 _ (List.mem_of_getElem? (i := 4) rfl)) hS hown (hts _ q1451) (fun _ h9 => h9) dJ21_getChars_62 ?_
      refine lv_iload hx hb dJ21_getChars_65 (lv_at hl 2 rfl) ?_
      refine mm_baldK (k := (n' % 100)) hx hb hE hM hc_5 rfl hm (by decide) dJ21_getChars_67 ?_
      rw [show (d2 (n' % 100) : Int32) = nI (48 + n' % 100 / 10) from (hd _ hm).2]
      refine mm_bastK (k := (e0 - (ds.length + 1 + 1))) hx hb hE hM hS hc_3 rfl (by omega) (by omega) (tb_nar (by omega)) dJ21_getChars_68 (fun H locs hM hS => ?_)
      rw [show upd (gw cs e0 ((48 + n' % 100 % 10) :: ds)) (e0 - (ds.length + 1 + 1)) (nI (48 + n' % 100 / 10)) = gw cs e0 ((48 + n' % 100 / 10) :: (48 + n' % 100 % 10) :: ds) from gw_put (ds := (48 + n' % 100 % 10) :: ds) (by simp; omega)] at hM
      have hM : mm_P Z.1 mm_cl A (mm_U M_6 ar (.inl (Z.2.1 1, cap, .inl (gw cs e0 ((48 + n' % 100 / 10) :: (48 + n' % 100 % 10) :: ds))))) H := hM
      have hc_8 : (mm_U M_6 ar (.inl (Z.2.1 1, cap, .inl (gw cs e0 ((48 + n' % 100 / 10) :: (48 + n' % 100 % 10) :: ds))))) ar = some (.inl (Z.2.1 1, cap, .inl (gw cs e0 ((48 + n' % 100 / 10) :: (48 + n' % 100 % 10) :: ds)))) := mm_U_eq
      have hc_9 : (mm_U M_6 ar (.inl (Z.2.1 1, cap, .inl (gw cs e0 ((48 + n' % 100 / 10) :: (48 + n' % 100 % 10) :: ds))))) (Z.2.2.1 3) = some (.inl (Z.2.1 1, 100, .inl d1)) := (mm_U_ne (Ne.symm hn3)).trans hc_4
      have hc_10 : (mm_U M_6 ar (.inl (Z.2.1 1, cap, .inl (gw cs e0 ((48 + n' % 100 / 10) :: (48 + n' % 100 % 10) :: ds))))) (Z.2.2.1 4) = some (.inl (Z.2.1 1, 100, .inl d2)) := (mm_U_ne (Ne.symm hn4)).trans hc_5
      obtain ⟨M_11, eM_11⟩ : ∃ z, z = mm_U M_6 ar (.inl (Z.2.1 1, cap, .inl (gw cs e0 ((48 + n' % 100 / 10) :: (48 + n' % 100 % 10) :: ds)))) := ⟨_, rfl⟩
      rw [← eM_11] at hM hc_8 hc_9 hc_10
      refine lv_goto (tgt := 22) hx hb dJ21_getChars_69 (by decide) ?_
      refine ih f (Nat.lt_succ_self f) _ _ _ _ _ _ ⟨n' / 100, (48 + n' % 100 / 10) :: (48 + n' % 100 % 10) :: ds, ?_, by omega, hf0, ?_, lv_sub hl [1, 4, 0, 5] rfl, hc_8, fun q h9 => by rw [eM_11, mm_U_ne h9, eM_6, mm_U_ne h9]; exact hk3 q h9, hc5, hc6⟩ hM hS
      · rw [Nat.pow_succ] at hf; exact Nat.div_lt_of_lt_mul (by omega)
      · rw [← hL]; simp only [dg, if_pos hs, List.append_assoc]; rfl
  · skip
    have hl5 : 1 + (dg 5 n).length = (dgs true n).length := by simp [dgs]; omega
    refine lv_iload_n hx hb dJ21_getChars_0 rfl (lv_at hl 1 rfl) ?_
    refine lv_istore hx hb dJ21_getChars_1 hl (by decide) rfl (fun ls hl => ?_)
    replace hl : lv_has ls 7 [(5, .int (nI e0)), (0, .int (nn n)), (1, .int (nI e0)), (2, .ref ar)] := hl
    refine lv_iload_n hx hb dJ21_getChars_3 rfl (lv_at hl 1 rfl) ?_
    refine lv_if_ge (tgt := 11) hx hb dJ21_getChars_4 (by decide) (fun h9 => absurd h9 (Int32.not_le.2 (show nn n < 0 from by rw [Int32.lt_iff_toInt_lt, nn_toInt hn]; have := hp rfl; show -(n : Int) < 0; omega))) (fun _ => ?_)
    refine lv_iconst (v := 1) hx hb dJ21_getChars_7 (by decide) ?_
    refine lv_goto (tgt := 12) hx hb dJ21_getChars_8 (by decide) ?_
    refine lv_istore hx hb dJ21_getChars_12 hl (by decide) rfl (fun ls hl => ?_)
    replace hl : lv_has ls 7 [(6, .int 1), (5, .int (nI e0)), (0, .int (nn n)), (1, .int (nI e0)), (2, .ref ar)] := hl
    refine lv_iload hx hb dJ21_getChars_14 (lv_at hl 0 rfl) ?_
    refine lv_if_ne (tgt := 22) hx hb dJ21_getChars_16 (by decide) (fun _ => ?_) (fun h9 => absurd h9 (by decide))
    refine mm_loopW (fun k M' ls cells slots => ∃ (n' : Nat) (ds : List Nat), n' < 100 ^ k ∧ n' ≤ 2 ^ 31 ∧ 0 < k ∧ dg k n' ++ ds = dg 5 n ∧ lv_has ls 7 [(0, .int (nn n')), (2, .ref ar), (5, .int (nI (e0 - ds.length))), (6, .int (mm_b true))] ∧ M' ar = some (tb_A Z cap (gw cs e0 ds)) ∧ (∀ q, q ≠ ar → M' q = M q) ∧ cells ≤ 0 ∧ slots ≤ 0) (fun k M3 ls H locs cells slots ih hI hM hS => ?_) (k := 5) ⟨n, [], by omega, hn, by omega, by simp, lv_sub hl [2, 4, 1, 0] rfl, by rw [gw_nil]; exact ha9, fun _ _ => rfl, by (try dsimp only); omega, by (try dsimp only); omega⟩ hM hS
    obtain ⟨n', ds, hf, hn', hk0, hL, hl, ha3, hk3, hc5, hc6⟩ := hI
    obtain ⟨f, rfl⟩ : ∃ f, k = f + 1 := ⟨k - 1, by omega⟩
    have hlen : (dg (f + 1) n').length + ds.length = (dg 5 n).length := by rw [← hL, List.length_append]
    have h3' := (hk3 _ (Ne.symm hn3)).trans h3
    have h4' := (hk3 _ (Ne.symm hn4)).trans h4
    refine lv_iload_n hx hb dJ21_getChars_22 rfl (lv_at hl 0 rfl) ?_
    refine lv_bipush (v := -100) hx hb dJ21_getChars_23 (by decide) ?_
    refine lv_icmp_gt (tgt := 72) hx hb dJ21_getChars_25 (by decide) (fun c_1 => ?_) (fun c_1 => ?_)
    · skip
      have hs : n' < 100 := Nat.lt_of_not_le (fun h6 => absurd ((nn_le hn' (by omega)).2 h6) (Int32.not_le.2 (by rw [show nn 100 = (-100 : Int32) from by decide]; exact c_1)))
      have hdl : ds.length + 1 ≤ e0 := by
        have h8 := @dg_small f n' hs
        have h9 : 1 ≤ (dg (f + 1) n').length := by rw [h8]; split <;> omega
        omega
      refine lv_aload_n hx hb dJ21_getChars_72 rfl (lv_at hl 1 rfl) ?_
      obtain ⟨x_2, ex_2⟩ : ∃ z : Int32, z = (nI (e0 - ds.length)) + (-1) := ⟨_, rfl⟩
      refine lv_iinc (v := x_2) (lv' := [(5, .int x_2), (0, .int (nn n')), (2, .ref ar), (6, .int (mm_b true))]) hx hb dJ21_getChars_73 hl (k := 2) rfl (by rw [ex_2]; rfl) (by decide) rfl (fun ls hl => ?_)
      rw [show x_2 = nI (e0 - (ds.length + 1)) from by rw [ex_2, show e0 - ds.length = e0 - (ds.length + 1) + 1 by omega]; exact nI_dec _] at hl
      refine lv_iload hx hb dJ21_getChars_76 (lv_at hl 0 rfl) ?_
      refine va_gets hx hb (hST.1 _ (List.mem_of_getElem? (i := 3) rfl)) hS hown (hts _ q1449) (fun _ h9 => h9) dJ21_getChars_78 ?_
      refine lv_iload_n hx hb dJ21_getChars_81 rfl (lv_at hl 1 rfl) ?_
      refine lv_ineg hx hb dJ21_getChars_82 ?_
      rw [show (-(nn n') : Int32) = nI n' from nn_neg]
      refine mm_baldK (k := n') hx hb hE hM h3' rfl hs (by decide) dJ21_getChars_83 ?_
      rw [show (d1 n' : Int32) = nI (48 + n' % 10) from (hd _ hs).1]
      refine mm_bastK (k := (e0 - (ds.length + 1))) hx hb hE hM hS ha3 rfl (by omega) (by omega) (tb_nar (by omega)) dJ21_getChars_84 (fun H locs hM hS => ?_)
      rw [show upd (gw cs e0 ds) (e0 - (ds.length + 1)) (nI (48 + n' % 10)) = gw cs e0 ((48 + n' % 10) :: ds) from gw_put (by omega)] at hM
      have hM : mm_P Z.1 mm_cl A (mm_U M3 ar (.inl (Z.2.1 1, cap, .inl (gw cs e0 ((48 + n' % 10) :: ds))))) H := hM
      have hc_3 : (mm_U M3 ar (.inl (Z.2.1 1, cap, .inl (gw cs e0 ((48 + n' % 10) :: ds))))) ar = some (.inl (Z.2.1 1, cap, .inl (gw cs e0 ((48 + n' % 10) :: ds)))) := mm_U_eq
      have hc_4 : (mm_U M3 ar (.inl (Z.2.1 1, cap, .inl (gw cs e0 ((48 + n' % 10) :: ds))))) (Z.2.2.1 3) = some (.inl (Z.2.1 1, 100, .inl d1)) := (mm_U_ne (Ne.symm hn3)).trans h3'
      have hc_5 : (mm_U M3 ar (.inl (Z.2.1 1, cap, .inl (gw cs e0 ((48 + n' % 10) :: ds))))) (Z.2.2.1 4) = some (.inl (Z.2.1 1, 100, .inl d2)) := (mm_U_ne (Ne.symm hn4)).trans h4'
      obtain ⟨M_6, eM_6⟩ : ∃ z, z = mm_U M3 ar (.inl (Z.2.1 1, cap, .inl (gw cs e0 ((48 + n' % 10) :: ds)))) := ⟨_, rfl⟩
      rw [← eM_6] at hM hc_3 hc_4 hc_5
      refine lv_iload_n hx hb dJ21_getChars_85 rfl (lv_at hl 1 rfl) ?_
      refine lv_bipush (v := -9) hx hb dJ21_getChars_86 (by decide) ?_
      refine lv_icmp_ge (tgt := 104) hx hb dJ21_getChars_88 (by decide) (fun c_7 => ?_) (fun c_7 => ?_)
      · skip
        · skip
          have hs2 : n' ≤ 9 := (nn_le (n := 9) (k := n') (by omega) hn').1 (by rw [show nn 9 = (-9 : Int32) from by decide]; exact c_7)
          have hds : ((48 + n' % 10) :: ds) = dg 5 n := by rw [← hL]; simp only [dg, if_neg (show ¬ 100 ≤ n' by omega), if_neg (show ¬ 10 ≤ n' by omega)]; rw [Nat.mod_eq_of_lt (by omega)]; rfl
          have hlx : (ds.length + 1) = (dg 5 n).length := by have h8 := congrArg List.length hds; simpa using h8
          refine lv_iload hx hb dJ21_getChars_104 (lv_at hl 3 rfl) ?_
          refine lv_if_eq (tgt := 118) hx hb dJ21_getChars_106 (by decide) (fun h9 => absurd h9 (by decide)) (fun _ => ?_)
          have hdl2 : (ds.length + 1) + 1 ≤ e0 := by omega
          refine lv_aload_n hx hb dJ21_getChars_109 rfl (lv_at hl 2 rfl) ?_
          obtain ⟨x_8, ex_8⟩ : ∃ z : Int32, z = (nI (e0 - (ds.length + 1))) + (-1) := ⟨_, rfl⟩
          refine lv_iinc (v := x_8) (lv' := [(5, .int x_8), (0, .int (nn n')), (2, .ref ar), (6, .int (mm_b true))]) hx hb dJ21_getChars_110 hl (k := 0) rfl (by rw [ex_8]; rfl) (by decide) rfl (fun ls hl => ?_)
          rw [show x_8 = nI (e0 - ((ds.length + 1) + 1)) from by rw [ex_8, show e0 - (ds.length + 1) = e0 - ((ds.length + 1) + 1) + 1 by omega]; exact nI_dec _] at hl
          refine lv_iload hx hb dJ21_getChars_113 (lv_at hl 0 rfl) ?_
          refine lv_bipush (v := 45) hx hb dJ21_getChars_115 (by decide) ?_
          rw [show (45 : Int32) = nI 45 from by decide]
          refine mm_bastK (k := (e0 - ((ds.length + 1) + 1))) hx hb hE hM hS hc_3 rfl (by omega) (by omega) (tb_nar (by omega)) dJ21_getChars_117 (fun H locs hM hS => ?_)
          rw [show upd (gw cs e0 ((48 + n' % 10) :: ds)) (e0 - ((ds.length + 1) + 1)) (nI 45) = gw cs e0 (45 :: ((48 + n' % 10) :: ds)) from gw_put (ds := ((48 + n' % 10) :: ds)) (show (ds.length + 1) < e0 by omega)] at hM
          have hM : mm_P Z.1 mm_cl A (mm_U M_6 ar (.inl (Z.2.1 1, cap, .inl (gw cs e0 (45 :: ((48 + n' % 10) :: ds)))))) H := hM
          have hc_9 : (mm_U M_6 ar (.inl (Z.2.1 1, cap, .inl (gw cs e0 (45 :: ((48 + n' % 10) :: ds)))))) ar = some (.inl (Z.2.1 1, cap, .inl (gw cs e0 (45 :: ((48 + n' % 10) :: ds))))) := mm_U_eq
          have hc_10 : (mm_U M_6 ar (.inl (Z.2.1 1, cap, .inl (gw cs e0 (45 :: ((48 + n' % 10) :: ds)))))) (Z.2.2.1 3) = some (.inl (Z.2.1 1, 100, .inl d1)) := (mm_U_ne (Ne.symm hn3)).trans hc_4
          have hc_11 : (mm_U M_6 ar (.inl (Z.2.1 1, cap, .inl (gw cs e0 (45 :: ((48 + n' % 10) :: ds)))))) (Z.2.2.1 4) = some (.inl (Z.2.1 1, 100, .inl d2)) := (mm_U_ne (Ne.symm hn4)).trans hc_5
          obtain ⟨M_12, eM_12⟩ : ∃ z, z = mm_U M_6 ar (.inl (Z.2.1 1, cap, .inl (gw cs e0 (45 :: ((48 + n' % 10) :: ds))))) := ⟨_, rfl⟩
          rw [← eM_12] at hM hc_9 hc_10 hc_11
          refine lv_iload hx hb dJ21_getChars_118 (lv_at hl 0 rfl) ?_
          rw [show e0 - ((ds.length + 1) + 1) = cs.length from by omega]
          exact mm_reti hx hb hr hlk hM hS ⟨rfl, by rw [hc_9, hds, he9, ← hl5, show 1 + (dg 5 n).length = (45 :: dg 5 n).length from by simp; omega, gw_all]; rfl, fun q h9 => by rw [eM_12, mm_U_ne h9, eM_6, mm_U_ne h9]; exact hk3 q h9⟩ dJ21_getChars_120 (by (try dsimp only); omega) (by (try dsimp only); omega)
      · skip
        have hs2 : 10 ≤ n' := Nat.lt_of_not_le (fun h6 => c_7 (by rw [show (-9 : Int32) = nn 9 from by decide]; exact (nn_le (by omega) hn').2 h6))
        have hdl3 : ds.length + 2 ≤ e0 := by have h8 := @dg_small f n' hs; rw [if_neg (by omega)] at h8; omega
        refine lv_aload_n hx hb dJ21_getChars_91 rfl (lv_at hl 2 rfl) ?_
        obtain ⟨x_8, ex_8⟩ : ∃ z : Int32, z = (nI (e0 - (ds.length + 1))) + (-1) := ⟨_, rfl⟩
        refine lv_iinc (v := x_8) (lv' := [(5, .int x_8), (0, .int (nn n')), (2, .ref ar), (6, .int (mm_b true))]) hx hb dJ21_getChars_92 hl (k := 0) rfl (by rw [ex_8]; rfl) (by decide) rfl (fun ls hl => ?_)
        rw [show x_8 = nI (e0 - (ds.length + 1 + 1)) from by rw [ex_8, show e0 - (ds.length + 1) = e0 - (ds.length + 1 + 1) + 1 by omega]; exact nI_dec _] at hl
        refine lv_iload hx hb dJ21_getChars_95 (lv_at hl 0 rfl) ?_
        refine va_gets hx hb (hST.1 _ (List.mem_of_getElem? (i := 4) rfl)) hS hown (hts _ q1451) (fun _ h9 => h9) dJ21_getChars_97 ?_
        refine lv_iload_n hx hb dJ21_getChars_100 rfl (lv_at hl 1 rfl) ?_
        refine lv_ineg hx hb dJ21_getChars_101 ?_
        rw [show (-(nn n') : Int32) = nI n' from nn_neg]
        refine mm_baldK (k := n') hx hb hE hM hc_5 rfl hs (by decide) dJ21_getChars_102 ?_
        rw [show (d2 n' : Int32) = nI (48 + n' / 10) from (hd _ hs).2]
        refine mm_bastK (k := (e0 - (ds.length + 1 + 1))) hx hb hE hM hS hc_3 rfl (by omega) (by omega) (tb_nar (by omega)) dJ21_getChars_103 (fun H locs hM hS => ?_)
        rw [show upd (gw cs e0 ((48 + n' % 10) :: ds)) (e0 - (ds.length + 1 + 1)) (nI (48 + n' / 10)) = gw cs e0 ((48 + n' / 10) :: (48 + n' % 10) :: ds) from gw_put (ds := (48 + n' % 10) :: ds) (by simp; omega)] at hM
        have hM : mm_P Z.1 mm_cl A (mm_U M_6 ar (.inl (Z.2.1 1, cap, .inl (gw cs e0 ((48 + n' / 10) :: (48 + n' % 10) :: ds))))) H := hM
        have hc_9 : (mm_U M_6 ar (.inl (Z.2.1 1, cap, .inl (gw cs e0 ((48 + n' / 10) :: (48 + n' % 10) :: ds))))) ar = some (.inl (Z.2.1 1, cap, .inl (gw cs e0 ((48 + n' / 10) :: (48 + n' % 10) :: ds)))) := mm_U_eq
        have hc_10 : (mm_U M_6 ar (.inl (Z.2.1 1, cap, .inl (gw cs e0 ((48 + n' / 10) :: (48 + n' % 10) :: ds))))) (Z.2.2.1 3) = some (.inl (Z.2.1 1, 100, .inl d1)) := (mm_U_ne (Ne.symm hn3)).trans hc_4
        have hc_11 : (mm_U M_6 ar (.inl (Z.2.1 1, cap, .inl (gw cs e0 ((48 + n' / 10) :: (48 + n' % 10) :: ds))))) (Z.2.2.1 4) = some (.inl (Z.2.1 1, 100, .inl d2)) := (mm_U_ne (Ne.symm hn4)).trans hc_5
        obtain ⟨M_12, eM_12⟩ : ∃ z, z = mm_U M_6 ar (.inl (Z.2.1 1, cap, .inl (gw cs e0 ((48 + n' / 10) :: (48 + n' % 10) :: ds)))) := ⟨_, rfl⟩
        rw [← eM_12] at hM hc_9 hc_10 hc_11
        have hds : ((48 + n' / 10) :: (48 + n' % 10) :: ds) = dg 5 n := by rw [← hL]; simp only [dg, if_neg (show ¬ 100 ≤ n' by omega), if_pos (show 10 ≤ n' by omega)]; rfl
        have hlx : (ds.length + 1 + 1) = (dg 5 n).length := by have h8 := congrArg List.length hds; simpa using h8
        refine lv_iload hx hb dJ21_getChars_104 (lv_at hl 3 rfl) ?_
        refine lv_if_eq (tgt := 118) hx hb dJ21_getChars_106 (by decide) (fun h9 => absurd h9 (by decide)) (fun _ => ?_)
        have hdl2 : (ds.length + 1 + 1) + 1 ≤ e0 := by omega
        refine lv_aload_n hx hb dJ21_getChars_109 rfl (lv_at hl 2 rfl) ?_
        obtain ⟨x_13, ex_13⟩ : ∃ z : Int32, z = (nI (e0 - (ds.length + 1 + 1))) + (-1) := ⟨_, rfl⟩
        refine lv_iinc (v := x_13) (lv' := [(5, .int x_13), (0, .int (nn n')), (2, .ref ar), (6, .int (mm_b true))]) hx hb dJ21_getChars_110 hl (k := 0) rfl (by rw [ex_13]; rfl) (by decide) rfl (fun ls hl => ?_)
        rw [show x_13 = nI (e0 - ((ds.length + 1 + 1) + 1)) from by rw [ex_13, show e0 - (ds.length + 1 + 1) = e0 - ((ds.length + 1 + 1) + 1) + 1 by omega]; exact nI_dec _] at hl
        refine lv_iload hx hb dJ21_getChars_113 (lv_at hl 0 rfl) ?_
        refine lv_bipush (v := 45) hx hb dJ21_getChars_115 (by decide) ?_
        rw [show (45 : Int32) = nI 45 from by decide]
        refine mm_bastK (k := (e0 - ((ds.length + 1 + 1) + 1))) hx hb hE hM hS hc_9 rfl (by omega) (by omega) (tb_nar (by omega)) dJ21_getChars_117 (fun H locs hM hS => ?_)
        rw [show upd (gw cs e0 ((48 + n' / 10) :: (48 + n' % 10) :: ds)) (e0 - ((ds.length + 1 + 1) + 1)) (nI 45) = gw cs e0 (45 :: ((48 + n' / 10) :: (48 + n' % 10) :: ds)) from gw_put (ds := ((48 + n' / 10) :: (48 + n' % 10) :: ds)) (show (ds.length + 1 + 1) < e0 by omega)] at hM
        have hM : mm_P Z.1 mm_cl A (mm_U M_12 ar (.inl (Z.2.1 1, cap, .inl (gw cs e0 (45 :: ((48 + n' / 10) :: (48 + n' % 10) :: ds)))))) H := hM
        have hc_14 : (mm_U M_12 ar (.inl (Z.2.1 1, cap, .inl (gw cs e0 (45 :: ((48 + n' / 10) :: (48 + n' % 10) :: ds)))))) ar = some (.inl (Z.2.1 1, cap, .inl (gw cs e0 (45 :: ((48 + n' / 10) :: (48 + n' % 10) :: ds))))) := mm_U_eq
        have hc_15 : (mm_U M_12 ar (.inl (Z.2.1 1, cap, .inl (gw cs e0 (45 :: ((48 + n' / 10) :: (48 + n' % 10) :: ds)))))) (Z.2.2.1 3) = some (.inl (Z.2.1 1, 100, .inl d1)) := (mm_U_ne (Ne.symm hn3)).trans hc_10
        have hc_16 : (mm_U M_12 ar (.inl (Z.2.1 1, cap, .inl (gw cs e0 (45 :: ((48 + n' / 10) :: (48 + n' % 10) :: ds)))))) (Z.2.2.1 4) = some (.inl (Z.2.1 1, 100, .inl d2)) := (mm_U_ne (Ne.symm hn4)).trans hc_11
        obtain ⟨M_17, eM_17⟩ : ∃ z, z = mm_U M_12 ar (.inl (Z.2.1 1, cap, .inl (gw cs e0 (45 :: ((48 + n' / 10) :: (48 + n' % 10) :: ds))))) := ⟨_, rfl⟩
        rw [← eM_17] at hM hc_14 hc_15 hc_16
        refine lv_iload hx hb dJ21_getChars_118 (lv_at hl 0 rfl) ?_
        rw [show e0 - ((ds.length + 1 + 1) + 1) = cs.length from by omega]
        exact mm_reti hx hb hr hlk hM hS ⟨rfl, by rw [hc_14, hds, he9, ← hl5, show 1 + (dg 5 n).length = (45 :: dg 5 n).length from by simp; omega, gw_all]; rfl, fun q h9 => by rw [eM_17, mm_U_ne h9, eM_12, mm_U_ne h9, eM_6, mm_U_ne h9]; exact hk3 q h9⟩ dJ21_getChars_120 (by (try dsimp only); omega) (by (try dsimp only); omega)
    · skip
      have hs : 100 ≤ n' := (nn_le hn' (by omega)).1 (by rw [show nn 100 = (-100 : Int32) from by decide]; exact Int32.not_lt.1 c_1)
      have hf0 : 0 < f := by rcases Nat.eq_zero_or_pos f with rfl | h; (simp at hf; omega); exact h
      have hdl : ds.length + 2 ≤ e0 := by have h8 := @dg_big f n' hs; omega
      refine lv_iload_n hx hb dJ21_getChars_28 rfl (lv_at hl 0 rfl) ?_
      refine lv_bipush (v := 100) hx hb dJ21_getChars_29 (by decide) ?_
      refine mm_idiv hx hb (by decide) dJ21_getChars_31 ?_
      rw [show (nn n' / 100 : Int32) = nn (n' / 100) from nn_div hn']
      refine lv_istore_n hx hb dJ21_getChars_32 rfl hl (by decide) rfl (fun ls hl => ?_)
      replace hl : lv_has ls 7 [(3, .int (nn (n' / 100))), (0, .int (nn n')), (2, .ref ar), (5, .int (nI (e0 - ds.length))), (6, .int (mm_b true))] := hl
      refine lv_iload_n hx hb dJ21_getChars_33 rfl (lv_at hl 0 rfl) ?_
      refine lv_bipush (v := 100) hx hb dJ21_getChars_34 (by decide) ?_
      refine lv_imul hx hb dJ21_getChars_36 ?_
      refine lv_iload_n hx hb dJ21_getChars_37 rfl (lv_at hl 1 rfl) ?_
      refine lv_isub hx hb dJ21_getChars_38 ?_
      rw [show (((nn (n' / 100)) * 100) - (nn n') : Int32) = nI (n' % 100) from nn_rem hn']
      have hm : n' % 100 < 100 := by omega
      refine lv_istore hx hb dJ21_getChars_39 hl (by decide) rfl (fun ls hl => ?_)
      replace hl : lv_has ls 7 [(4, .int (nI (n' % 100))), (3, .int (nn (n' / 100))), (0, .int (nn n')), (2, .ref ar), (5, .int (nI (e0 - ds.length))), (6, .int (mm_b true))] := hl
      refine lv_iload_n hx hb dJ21_getChars_41 rfl (lv_at hl 1 rfl) ?_
      refine lv_istore_n hx hb dJ21_getChars_42 rfl hl (by decide) rfl (fun ls hl => ?_)
      replace hl : lv_has ls 7 [(0, .int (nn (n' / 100))), (4, .int (nI (n' % 100))), (3, .int (nn (n' / 100))), (2, .ref ar), (5, .int (nI (e0 - ds.length))), (6, .int (mm_b true))] := hl
      refine lv_aload_n hx hb dJ21_getChars_43 rfl (lv_at hl 3 rfl) ?_
      obtain ⟨x_2, ex_2⟩ : ∃ z : Int32, z = (nI (e0 - ds.length)) + (-1) := ⟨_, rfl⟩
      refine lv_iinc (v := x_2) (lv' := [(5, .int x_2), (0, .int (nn (n' / 100))), (4, .int (nI (n' % 100))), (3, .int (nn (n' / 100))), (2, .ref ar), (6, .int (mm_b true))]) hx hb dJ21_getChars_44 hl (k := 4) rfl (by rw [ex_2]; rfl) (by decide) rfl (fun ls hl => ?_)
      rw [show x_2 = nI (e0 - (ds.length + 1)) from by rw [ex_2, show e0 - ds.length = e0 - (ds.length + 1) + 1 by omega]; exact nI_dec _] at hl
      refine lv_iload hx hb dJ21_getChars_47 (lv_at hl 0 rfl) ?_
      refine va_gets hx hb (hST.1 _ (List.mem_of_getElem? (i := 3) rfl)) hS hown (hts _ q1449) (fun _ h9 => h9) dJ21_getChars_49 ?_
      refine lv_iload hx hb dJ21_getChars_52 (lv_at hl 2 rfl) ?_
      refine mm_baldK (k := (n' % 100)) hx hb hE hM h3' rfl hm (by decide) dJ21_getChars_54 ?_
      rw [show (d1 (n' % 100) : Int32) = nI (48 + n' % 100 % 10) from (hd _ hm).1]
      refine mm_bastK (k := (e0 - (ds.length + 1))) hx hb hE hM hS ha3 rfl (by omega) (by omega) (tb_nar (by omega)) dJ21_getChars_55 (fun H locs hM hS => ?_)
      rw [show upd (gw cs e0 ds) (e0 - (ds.length + 1)) (nI (48 + n' % 100 % 10)) = gw cs e0 ((48 + n' % 100 % 10) :: ds) from gw_put (by omega)] at hM
      have hM : mm_P Z.1 mm_cl A (mm_U M3 ar (.inl (Z.2.1 1, cap, .inl (gw cs e0 ((48 + n' % 100 % 10) :: ds))))) H := hM
      have hc_3 : (mm_U M3 ar (.inl (Z.2.1 1, cap, .inl (gw cs e0 ((48 + n' % 100 % 10) :: ds))))) ar = some (.inl (Z.2.1 1, cap, .inl (gw cs e0 ((48 + n' % 100 % 10) :: ds)))) := mm_U_eq
      have hc_4 : (mm_U M3 ar (.inl (Z.2.1 1, cap, .inl (gw cs e0 ((48 + n' % 100 % 10) :: ds))))) (Z.2.2.1 3) = some (.inl (Z.2.1 1, 100, .inl d1)) := (mm_U_ne (Ne.symm hn3)).trans h3'
      have hc_5 : (mm_U M3 ar (.inl (Z.2.1 1, cap, .inl (gw cs e0 ((48 + n' % 100 % 10) :: ds))))) (Z.2.2.1 4) = some (.inl (Z.2.1 1, 100, .inl d2)) := (mm_U_ne (Ne.symm hn4)).trans h4'
      obtain ⟨M_6, eM_6⟩ : ∃ z, z = mm_U M3 ar (.inl (Z.2.1 1, cap, .inl (gw cs e0 ((48 + n' % 100 % 10) :: ds)))) := ⟨_, rfl⟩
      rw [← eM_6] at hM hc_3 hc_4 hc_5
      refine lv_aload_n hx hb dJ21_getChars_56 rfl (lv_at hl 4 rfl) ?_
      obtain ⟨x_7, ex_7⟩ : ∃ z : Int32, z = (nI (e0 - (ds.length + 1))) + (-1) := ⟨_, rfl⟩
      refine lv_iinc (v := x_7) (lv' := [(5, .int x_7), (0, .int (nn (n' / 100))), (4, .int (nI (n' % 100))), (3, .int (nn (n' / 100))), (2, .ref ar), (6, .int (mm_b true))]) hx hb dJ21_getChars_57 hl (k := 0) rfl (by rw [ex_7]; rfl) (by decide) rfl (fun ls hl => ?_)
      rw [show x_7 = nI (e0 - (ds.length + 1 + 1)) from by rw [ex_7, show e0 - (ds.length + 1) = e0 - (ds.length + 1 + 1) + 1 by omega]; exact nI_dec _] at hl
      refine lv_iload hx hb dJ21_getChars_60 (lv_at hl 0 rfl) ?_
      refine va_gets hx hb (hST.1 _ (List.mem_of_getElem? (i := 4) rfl)) hS hown (hts _ q1451) (fun _ h9 => h9) dJ21_getChars_62 ?_
      refine lv_iload hx hb dJ21_getChars_65 (lv_at hl 2 rfl) ?_
      refine mm_baldK (k := (n' % 100)) hx hb hE hM hc_5 rfl hm (by decide) dJ21_getChars_67 ?_
      rw [show (d2 (n' % 100) : Int32) = nI (48 + n' % 100 / 10) from (hd _ hm).2]
      refine mm_bastK (k := (e0 - (ds.length + 1 + 1))) hx hb hE hM hS hc_3 rfl (by omega) (by omega) (tb_nar (by omega)) dJ21_getChars_68 (fun H locs hM hS => ?_)
      rw [show upd (gw cs e0 ((48 + n' % 100 % 10) :: ds)) (e0 - (ds.length + 1 + 1)) (nI (48 + n' % 100 / 10)) = gw cs e0 ((48 + n' % 100 / 10) :: (48 + n' % 100 % 10) :: ds) from gw_put (ds := (48 + n' % 100 % 10) :: ds) (by simp; omega)] at hM
      have hM : mm_P Z.1 mm_cl A (mm_U M_6 ar (.inl (Z.2.1 1, cap, .inl (gw cs e0 ((48 + n' % 100 / 10) :: (48 + n' % 100 % 10) :: ds))))) H := hM
      have hc_8 : (mm_U M_6 ar (.inl (Z.2.1 1, cap, .inl (gw cs e0 ((48 + n' % 100 / 10) :: (48 + n' % 100 % 10) :: ds))))) ar = some (.inl (Z.2.1 1, cap, .inl (gw cs e0 ((48 + n' % 100 / 10) :: (48 + n' % 100 % 10) :: ds)))) := mm_U_eq
      have hc_9 : (mm_U M_6 ar (.inl (Z.2.1 1, cap, .inl (gw cs e0 ((48 + n' % 100 / 10) :: (48 + n' % 100 % 10) :: ds))))) (Z.2.2.1 3) = some (.inl (Z.2.1 1, 100, .inl d1)) := (mm_U_ne (Ne.symm hn3)).trans hc_4
      have hc_10 : (mm_U M_6 ar (.inl (Z.2.1 1, cap, .inl (gw cs e0 ((48 + n' % 100 / 10) :: (48 + n' % 100 % 10) :: ds))))) (Z.2.2.1 4) = some (.inl (Z.2.1 1, 100, .inl d2)) := (mm_U_ne (Ne.symm hn4)).trans hc_5
      obtain ⟨M_11, eM_11⟩ : ∃ z, z = mm_U M_6 ar (.inl (Z.2.1 1, cap, .inl (gw cs e0 ((48 + n' % 100 / 10) :: (48 + n' % 100 % 10) :: ds)))) := ⟨_, rfl⟩
      rw [← eM_11] at hM hc_8 hc_9 hc_10
      refine lv_goto (tgt := 22) hx hb dJ21_getChars_69 (by decide) ?_
      refine ih f (Nat.lt_succ_self f) _ _ _ _ _ _ ⟨n' / 100, (48 + n' % 100 / 10) :: (48 + n' % 100 % 10) :: ds, ?_, by omega, hf0, ?_, lv_sub hl [1, 4, 0, 5] rfl, hc_8, fun q h9 => by rw [eM_11, mm_U_ne h9, eM_6, mm_U_ne h9]; exact hk3 q h9, hc5, hc6⟩ hM hS
      · rw [Nat.pow_succ] at hf; exact Nat.div_lt_of_lt_mul (by omega)
      · rw [← hL]; simp only [dg, if_pos hs, List.append_assoc]; rfl
