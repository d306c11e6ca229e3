/-! ===== Flat ===== -/
set_option maxRecDepth 100000
abbrev fl_E (ty tl : Option Nat) (lb : Int32) : va_E := .inr (17, [va_rf ty, va_rf tl, .int lb])
/-- the list of a Flat: types by labels -/
def uXR (Z : mm_G) (M : mm_M) (L : List Nat) (vr : Nat → Nat) (S : ts) (f : Nat → Option ev) (xs : List (Option Nat)) : Prop := xs.length = 10 ∧ ∀ l, l < 10 → (f l = none ∧ xs[l]? = some none) ∨ ∃ x ad, f l = some (uap S.2.1 x) ∧ xs[l]? = some (some ad) ∧ tp Z M L vr S.1 x false ad
theorem uXR.set {Z : mm_G} {M : mm_M} {L : List Nat} {vr : Nat → Nat} {S : ts} {f : Nat → Option ev} {xs : List (Option Nat)} (h : uXR Z M L vr S f xs) {k : Nat} (hk : k < 10) {x : ev} {ad : Nat} (ht : tp Z M L vr S.1 x false ad) : uXR Z M L vr S (fun l => if l = k then some (uap S.2.1 x) else f l) (xs.set k (some ad)) := by
  refine ⟨by rw [List.length_set]; exact h.1, fun l hl => ?_⟩
  by_cases e : l = k
  · subst e
    exact Or.inr ⟨x, ad, if_pos rfl, by rw [List.getElem?_set_self (by rw [h.1]; exact hl)], ht⟩
  · dsimp only
    rw [if_neg e, List.getElem?_set_ne (Ne.symm e)]
    exact h.2 l hl
theorem tp_obj {Z : mm_G} {M : mm_M} {L : List Nat} {vr : Nat → Nat} {n : Nat} {t : ev} {m : Bool} {a : Nat} (h : tp Z M L vr n t m a) : ∃ ci fs, M a = some (.inr (ci, fs)) := by
  unfold tp at h
  split at h
  · exact ⟨_, _, h.2.2⟩
  · obtain ⟨-, -, -, _, _, _, h⟩ := h; exact ⟨_, _, h⟩
  · obtain ⟨_, _, _, _, _, -, h, -⟩ := h; exact ⟨_, _, h⟩
  · obtain ⟨_, _, _, _, _, -, -, h, -⟩ := h; exact ⟨_, _, h⟩
  · exact ⟨_, _, h.2.2⟩
  · obtain ⟨-, -, -, _, _, _, _, h⟩ := h; exact ⟨_, _, h⟩
  · obtain ⟨_, _, -, h, -⟩ := h; exact ⟨_, _, h⟩
  · exact h.elim
/-- a Flat of the row R (seen) -/
def uFL (Z : mm_G) (M0 M : mm_M) (L : List Nat) (vr : Nat → Nat) (S : ts) (fa : Nat) (R : ev) : Prop := ∃ (q ar : Nat) (xs : List (Option Nat)) (tl : Option Nat), M fa = some (fl_E (some q) tl (ufl R (fun _ => none) 0).2.1) ∧ AL Z M q ar 10 xs ∧ M0 q = none ∧ M0 ar = none ∧ uXR Z M0 L vr S (ufl R (fun _ => none) 0).1 xs ∧
  (match (ufl R (fun _ => none) 0).2.2 with | none => tl = none | some w => tl = some (vr w) ∧ w < S.1 ∧ M0 (vr w) = some (cr_E none (S.2.2.2.2 w) (S.2.2.1 w) (S.2.2.2.1 w)) ∧ S.2.1 w = .var w)
theorem cr_now.ext {M M' : mm_M} (hx : mm_Ext M M') : ∀ {d a b : Nat}, cr_now M d a b → cr_now M' d a b := by
  have h1 : ∀ a sm, cr_at M a sm → cr_at M' a sm := by
    intro a sm h
    rcases h with ⟨lv, lk, lc, h⟩ | ⟨h, lb, ty, rs, h2⟩ | ⟨h, h2⟩
    · exact Or.inl ⟨lv, lk, lc, hx.at h⟩
    · exact Or.inr (Or.inl ⟨h, lb, ty, rs, hx.at h2⟩)
    · exact Or.inr (Or.inr ⟨h, hx.at h2⟩)
  intro d
  induction d with
  | zero => intro a b h; exact ⟨h.1, h1 _ _ h.2⟩
  | succ d ih => intro a b h; obtain ⟨q, h2, h3⟩ := h; exact ⟨q, h1 _ _ h2, ih h3⟩
theorem ct_now.ext {M M' : mm_M} (hx : mm_Ext M M') : ∀ {d a b : Nat}, ct_now M d a b → ct_now M' d a b := by
  have h1 : ∀ a sm, ct_at M a sm → ct_at M' a sm := by
    intro a sm h
    rcases h with ⟨lv, lk, h⟩ | ⟨f, t, bq, rn, h⟩ | ⟨iv, w, bq, rn, h⟩ | ⟨h, h2⟩
    · exact Or.inl ⟨lv, lk, hx.at h⟩
    · exact Or.inr (Or.inl ⟨_, _, _, _, hx.at h⟩)
    · exact Or.inr (Or.inr (Or.inl ⟨_, _, _, _, hx.at h⟩))
    · exact Or.inr (Or.inr (Or.inr ⟨h, hx.at h2⟩))
  intro d
  induction d with
  | zero => intro a b h; exact ⟨h.1, h1 _ _ h.2⟩
  | succ d ih => intro a b h; obtain ⟨q, h2, h3⟩ := h; exact ⟨q, h1 _ _ h2, ih h3⟩
theorem ufl_ins {k : Nat} {X : ev} : ∀ (R : ev) (f : Nat → Option ev) (b : Int32), ufl (uins k X R) f b = ufl R (fun l => if l = k then some X else f l) (b ||| (1 <<< (nI k &&& 31))) := by
  have key : ∀ (N : Nat) (R : ev), SizeOf.sizeOf R < N → ∀ (f : Nat → Option ev) (b : Int32), ufl (uins k X R) f b = ufl R (fun l => if l = k then some X else f l) (b ||| (1 <<< (nI k &&& 31))) := by
    intro N
    induction N with
    | zero => intro R h; omega
    | succ N ih =>
      intro R hz f b
      unfold uins
      split
      · rename_i u j r
        have z1 : SizeOf.sizeOf (Lean.Grind.CommRing.Expr.add (.pow u j) r) = 1 + (1 + SizeOf.sizeOf u + SizeOf.sizeOf j) + SizeOf.sizeOf r := rfl
        split
        · simp only [ufl]
        · simp only [ufl]
          rw [ih r (by omega)]
          have e1 : (fun l => if l = k then some X else if l = j then some u else f l) = fun l => if l = j then some u else if l = k then some X else f l := by
            funext l
            by_cases h1 : l = k
            · rw [if_pos h1, if_neg (by omega), if_pos h1]
            · rw [if_neg h1, if_neg h1]
          rw [e1, Int32.or_assoc, Int32.or_assoc, Int32.or_comm (1 <<< (nI j &&& 31))]
      · simp only [ufl]
  exact fun R => key _ R (Nat.lt_succ_self _)
theorem al_set_keep {M0 M1 M2 : mm_M} {ar : Nat} (hx : mm_Ext M0 M1) (h0 : M0 ar = none) (hk : ∀ q : Nat, q ≠ ar → M2 q = M1 q) : mm_Ext M0 M2 := fun q hq => by
  rw [hk q (fun h9 => hq (h9 ▸ h0)), hx q hq]

set_option maxHeartbeats 4000000 in
set_option maxRecDepth 100000 in
theorem d_X22_init (l : Launch) (Z : mm_G) {M : mm_M} {M0 : mm_M} {L : List Nat} {vr : Nat → Nat} {S : ts} {r R : ev} {fa a : Nat} (hz9 : al_0 Z M0) (h0 : M0 fa = none) (hMf : M = mm_U M0 fa (.inr (17, [.null, .null, .int 0]))) (hR : uap S.2.1 r = R) (hC : uCI Z M0 L vr S) (htp : tp Z M0 L vr S.1 r true a) : mm_D l Z yX22_init (ws_ yX22_init cX22_init 5 none) { frames := L.length + 10, cells := 2, slots := 13, locals := 20 * L.length + 320 } [.ref fa, .ref a] M (fun v9 M' n9 k9 => v9 = none ∧ n9 = 2 ∧ k9 = 13 ∧ mm_Ext M0 M' ∧ uFL Z M0 M' L vr S fa R) mm_nx := by
  refine mm_ofWD (cc := cX22_init) (maxL := 5) (ret := none) (by decide) rfl (Nat.le_of_ble_eq_true rfl) ?_
  intro p e s m below meth c A ls hx hb hr hlk hml hown hmn hts htab hE hST hA hM hS hl
  replace hl : lv_has ls 5 [(0, .ref fa), (1, .ref a)] := hl
  have hfa : M fa = some (.inr (17, [.null, .null, .int 0])) := by rw [hMf]; exact mm_U_eq
  have hexM : mm_Ext M0 M := by rw [hMf]; exact mm_Ext.U h0
  refine lv_aload_n hx hb dX22_init_0 rfl (lv_at hl 0 rfl) ?_
  refine W.objInit hx hb hown (hts _ q1198) (hts _ q127) (hts _ q128) rfl (by rw [hml]; exact hl.1) rfl dX22_init_1 (by (try simp only [List.map, List.sum_cons, List.sum_nil]); (try dsimp only); omega) (by (try simp only [List.map, List.sum_cons, List.sum_nil]); (try dsimp only); omega) ?_
  refine W.eq (g2 := F0 m 4 ls []) rfl ?_
  refine lv_aload_n hx hb dX22_init_4 rfl (lv_at hl 0 rfl) ?_
  refine mm_new (D := Z.1) (ci := 41) (fs := mm_f0J2) (C := RJ2) (T := TJ2) (N := 3) hx hb hts in_J2 tyJ2 tyJ2_ok hown (hts _ q1199) (hts _ q130) (hts _ q53) hE.1 hM hS hA mm_cJ2 mm_dfJ2 (by (try simp only [List.map, List.sum_cons, List.sum_nil]); (try dsimp only); omega) (by (try simp only [List.map, List.sum_cons, List.sum_nil]); (try dsimp only); omega) dX22_init_5 (fun q_2 H nq_1 hM hS => ?_)
  have hM : mm_P Z.1 mm_cl A (mm_U M q_2 (.inr (41, [.int 0, .null, .int 0]))) H := hM
  have ne_3 : fa ≠ q_2 := (mm_neN hfa nq_1)
  have hc_4 : (mm_U M q_2 (.inr (41, [.int 0, .null, .int 0]))) q_2 = some (.inr (41, [.int 0, .null, .int 0])) := mm_U_eq
  have hc_5 : (mm_U M q_2 (.inr (41, [.int 0, .null, .int 0]))) fa = some (.inr (17, [.null, .null, .int 0])) := (mm_U_ne ne_3).trans hfa
  obtain ⟨M_6, eM_6⟩ : ∃ z, z = mm_U M q_2 (.inr (41, [.int 0, .null, .int 0])) := ⟨_, rfl⟩
  rw [← eM_6] at hM hc_5 hc_4
  refine lv_dup hx hb dX22_init_8 rfl ?_
  refine mm_callI (As := []) (rest := [.ref q_2, .ref fa]) ⟨hx, hb, hml, hown, hts⟩ hE hST hA (c_J2_init l Z (M := M_6) (h0 := q_2) hc_4) (cwI (maxL := 1) 0 hts (lw_meth q133) rfl rfl rfl (hts _ q53) (hts _ q1200) (hts _ q132) rfl (by decide +kernel) ⟨(by (try dsimp only); omega), (by (try dsimp only); omega)⟩) hM hS rfl hl.1 (Nat.le_of_ble_eq_true rfl) dX22_init_9 rfl ⟨(by (try simp only [List.map, List.sum_cons, List.sum_nil]); (try dsimp only); omega), (by (try simp only [List.map, List.sum_cons, List.sum_nil]); (try dsimp only); omega)⟩ (fun _ _ _ _ _ _ h9 => h9.elim) (fun v_7 M_8 H locs hp_9 hM hS => ?_)
  obtain ⟨rfl, eM_8⟩ := hp_9
  rw [eM_8] at hM
  replace hM : mm_P Z.1 mm_cl A (mm_U M_6 q_2 (.inr (41, [.int 0, .ref (Z.2.2.1 2), .int 0]))) H := hM
  have hc_10 : (mm_U M_6 q_2 (.inr (41, [.int 0, .ref (Z.2.2.1 2), .int 0]))) q_2 = some (.inr (41, [.int 0, .ref (Z.2.2.1 2), .int 0])) := mm_U_eq
  have hc_11 : (mm_U M_6 q_2 (.inr (41, [.int 0, .ref (Z.2.2.1 2), .int 0]))) fa = some (.inr (17, [.null, .null, .int 0])) := (mm_U_ne ne_3).trans hc_5
  obtain ⟨M_12, eM_12⟩ : ∃ z, z = mm_U M_6 q_2 (.inr (41, [.int 0, .ref (Z.2.2.1 2), .int 0])) := ⟨_, rfl⟩
  rw [← eM_12] at hM hc_11 hc_10
  have hexQ : mm_Ext M M_12 := by subst eM_12 eM_6; rw [mm_U_U]; exact mm_Ext.U nq_1
  have hq0 : M0 q_2 = none := hexM.none nq_1
  refine mm_putF (D := Z.1) (ci := 17) (v := .ref q_2) (ty := .object "java/util/ArrayList") (C := RX22) (T := TX22) (N := 3) hx hb hts in_X22 tyX22 tyX22_ok nmX22 hown hE.1 hM hS hc_11 mm_cX22 0 (by decide) (hts _ q1210) (fun _ h9 => h9) rfl hmn rfl (by decide +kernel) rfl rfl (Nat.le_of_ble_eq_true rfl) dX22_init_12 (fun H locs hM hS => ?_)
  have hM : mm_P Z.1 mm_cl A (mm_U M_12 fa (.inr (17, [.ref q_2, .null, .int 0]))) H := hM
  have hc_13 : (mm_U M_12 fa (.inr (17, [.ref q_2, .null, .int 0]))) fa = some (.inr (17, [.ref q_2, .null, .int 0])) := mm_U_eq
  have hc_14 : (mm_U M_12 fa (.inr (17, [.ref q_2, .null, .int 0]))) q_2 = some (.inr (41, [.int 0, .ref (Z.2.2.1 2), .int 0])) := (mm_U_ne (Ne.symm ne_3)).trans hc_10
  obtain ⟨M_15, eM_15⟩ : ∃ z, z = mm_U M_12 fa (.inr (17, [.ref q_2, .null, .int 0])) := ⟨_, rfl⟩
  rw [← eM_15] at hM hc_13 hc_14
  have hex0 : mm_Ext M0 M_15 := fun q9 h9 => by rw [eM_15, mm_U_ne (show q9 ≠ fa from fun h8 => h9 (by rw [h8]; exact h0)), hexM.trans hexQ q9 h9]
  obtain ⟨zf9, hzf9⟩ := hz9
  have hN : AN Z M0 M_15 q_2 (Z.2.2.1 2) 0 [] := ⟨AL.of (md := 0) (f := zf9) hc_14 (hex0.at hzf9) (Nat.le_refl _) (by decide) (fun _ => rfl) (fun i h9 => absurd h9 (Nat.not_lt_zero i)), hq0, Or.inl rfl, Or.inl rfl, hex0⟩
  have hf4 := hc_13
  refine lv_iconst (v := 0) hx hb dX22_init_15 (by decide) ?_
  refine lv_istore_n hx hb dX22_init_16 rfl hl (by decide) rfl (fun ls hl => ?_)
  replace hl : lv_has ls 5 [(2, .int 0), (0, .ref fa), (1, .ref a)] := hl
  refine mm_loopW (fun k M' ls cells slots => ∃ (i : Nat) (ar cap : Nat), k = 10 - i ∧ i ≤ 10 ∧ lv_has ls 5 [(2, .int (nI i)), (0, .ref fa), (1, .ref a)] ∧ AN Z M0 M' q_2 ar cap (List.replicate i none) ∧ M' fa = some (fl_E (some q_2) none 0) ∧ cap = (if i = 0 then 0 else 10) ∧ cells = (if i = 0 then 1 else 2) ∧ slots = (if i = 0 then 3 else 13)) (fun k M5 ls H locs cells slots ih hI hM hS => ?_) ⟨0, _, _, rfl, by omega, lv_sub hl [0, 1, 2] rfl, hN, hf4, rfl, rfl, rfl⟩ hM hS
  clear hN hf4 hex0
  obtain ⟨i, ar, cap, rfl, hi9, hl, hN, hf5, hcap, hc5, hs5⟩ := hI
  have hlen5 : (List.replicate i (none : Option Nat)).length = i := List.length_replicate
  obtain ⟨mdhq_16, fqhq_16, hq_16, -⟩ := id hN.1
  refine lv_iload_n hx hb dX22_init_17 rfl (lv_at hl 0 rfl) ?_
  refine lv_bipush (v := 10) hx hb dX22_init_18 (by decide) ?_
  refine lv_icmp_ge (tgt := 38) hx hb dX22_init_20 (by decide) (fun c_17 => ?_) (fun c_17 => ?_)
  · skip
    obtain rfl : i = 10 := by have := (nI_leI (a := 10) (b := i) (by omega) (by omega)).1 c_17; omega
    rw [if_neg (by decide)] at hcap hc5 hs5
    subst hcap
    have hex5 : mm_Ext M0 M5 := hN.2.2.2.2
    obtain ⟨d1, b1, hd1, hn0, hcs⟩ := hC.nowR' htp
    rw [hR] at hcs
    have hn1 := hn0.ext hex5
    refine lv_aload_n hx hb dX22_init_38 rfl (lv_at hl 2 rfl) ?_
    refine mm_cutR (b := b1) (pc2 := 42) (ls := ls) (rest := []) (M := M5) (fun kk9 => ?_) (fun H locs hM hS => ?_) hM hS
    · skip
      have hw9 := c_nowR l Z hn1
      obtain ⟨sm9, hq9⟩ := hn1.at
      rcases hq9 with ⟨lv9, lk9, lc9, hq9⟩ | ⟨rfl, lb9, ty9, rs9, hq9⟩ | ⟨rfl, hq9⟩
      · skip
        refine mm_callU (As := []) (rest := []) ⟨hx, hb, hml, hown, hts⟩ hE hST hA (hw9.1 _ _ _ _ hq9) (va_cwO (x := ⟨"RowenTongue$Row", "now", "()LRowenTongue$Row;"⟩) (C := RX15) (owner := "RowenTongue$Row") 0 hts (lw_app (lw_in _ [1202, 873, 872, 876, 877, 82] (by decide +kernel) (by decide +kernel)) (lw_meth q878)) rfl rfl rfl q880 (by decide +kernel) ⟨(by (try dsimp only); omega), (by (try dsimp only); omega)⟩) hM hS mm_cX15 hq9 rfl hl.1 (Nat.le_of_ble_eq_true rfl) dX22_init_39 rfl ⟨(by (try simp only [List.map, List.sum_cons, List.sum_nil]); (try dsimp only); omega), (by (try simp only [List.map, List.sum_cons, List.sum_nil]); (try dsimp only); omega)⟩ (fun _ _ _ _ _ _ h9 => h9.elim) (fun v_18 M_19 H locs hp_20 hM hS => ?_)
        obtain ⟨rfl, eM_19⟩ := hp_20
        rw [eM_19] at hM
        exact kk9 _ _ hM hS
      · skip
        refine mm_callU (As := []) (rest := []) ⟨hx, hb, hml, hown, hts⟩ hE hST hA (hw9.2 (Or.inl ⟨_, _, _, hq9⟩)) (va_cwU (x := ⟨"RowenTongue$Row", "now", "()LRowenTongue$Row;"⟩) (C := RX14) (owner := "RowenTongue$Row") 0 hts (lw_app (lw_in _ [1202, 873, 874, 872, 80] (by decide +kernel) (by decide +kernel)) (lw_meth q880)) rfl rfl rfl rfl (by decide +kernel) ⟨(by (try dsimp only); omega), (by (try dsimp only); omega)⟩) hM hS mm_cX14 hq9 rfl hl.1 (Nat.le_of_ble_eq_true rfl) dX22_init_39 rfl ⟨(by (try simp only [List.map, List.sum_cons, List.sum_nil]); (try dsimp only); omega), (by (try simp only [List.map, List.sum_cons, List.sum_nil]); (try dsimp only); omega)⟩ (fun _ _ _ _ _ _ h9 => h9.elim) (fun v_18 M_19 H locs hp_20 hM hS => ?_)
        obtain ⟨rfl, eM_19⟩ := hp_20
        rw [eM_19] at hM
        exact kk9 _ _ hM hS
      · skip
        refine mm_callU (As := []) (rest := []) ⟨hx, hb, hml, hown, hts⟩ hE hST hA (hw9.2 (Or.inr hq9)) (va_cwU (x := ⟨"RowenTongue$Row", "now", "()LRowenTongue$Row;"⟩) (C := "RowenTongue$Nothing") (owner := "RowenTongue$Row") 0 hts (lw_app (lw_in _ [1202, 873, 875, 872, 80] (by decide +kernel) (by decide +kernel)) (lw_meth q880)) rfl rfl rfl rfl (by decide +kernel) ⟨(by (try dsimp only); omega), (by (try dsimp only); omega)⟩) hM hS mm_cE2 hq9 rfl hl.1 (Nat.le_of_ble_eq_true rfl) dX22_init_39 rfl ⟨(by (try simp only [List.map, List.sum_cons, List.sum_nil]); (try dsimp only); omega), (by (try simp only [List.map, List.sum_cons, List.sum_nil]); (try dsimp only); omega)⟩ (fun _ _ _ _ _ _ h9 => h9.elim) (fun v_18 M_19 H locs hp_20 hM hS => ?_)
        obtain ⟨rfl, eM_19⟩ := hp_20
        rw [eM_19] at hM
        exact kk9 _ _ hM hS
    refine lv_astore_n hx hb dX22_init_42 rfl hl (by decide) rfl (fun ls hl => ?_)
    replace hl : lv_has ls 5 [(2, .ref b1), (0, .ref fa), (1, .ref a)] := hl
    have hX5 : uXR Z M0 L vr S (fun _ => none) (List.replicate 10 none) := ⟨hlen5, fun l9 h9 => Or.inl ⟨rfl, by rw [List.getElem?_replicate, if_pos h9]⟩⟩
    refine mm_loopW (fun k M' ls cells slots => ∃ (T2 : ev) (b : Nat) (ar : Nat) (xs : List (Option Nat)) (fc : Nat → Option ev) (lb : Int32), k = SizeOf.sizeOf T2 ∧ lv_has ls 5 [(2, .ref b), (0, .ref fa), (1, .ref a)] ∧ AN Z M0 M' q_2 ar 10 xs ∧ M' fa = some (fl_E (some q_2) none lb) ∧ uXR Z M0 L vr S fc xs ∧ uRow Z M0 L vr S T2 b ∧ ufl T2 fc lb = ufl R (fun _ => none) 0 ∧ cells = 2 ∧ slots = 13) (fun k M6 ls H locs cells slots ih2 hI hM hS => ?_) ⟨R, b1, ar, _, _, _, rfl, lv_sub hl [0, 1, 2] rfl, hN, hf5, hX5, hcs, rfl, hc5, hs5⟩ hM hS
    clear hN hf5 hX5 hcs hn1 hn0 hex5
    obtain ⟨T2, b, ar2, xs, fc, lb, rfl, hl, hN, hf5, hX, hrow, hfl, rfl, rfl⟩ := hI
    have hex6 : mm_Ext M0 M6 := hN.2.2.2.2
    obtain ⟨mdhq_18, fqhq_18, hq_18, -⟩ := id hN.1
    refine lv_aload_n hx hb dX22_init_43 rfl (lv_at hl 0 rfl) ?_
    rcases hrow with ⟨eT, hb0, hbZ⟩ | ⟨u, hu, eT, hsu, hbu, hbL, hbR⟩ | ⟨x1, k1, r1, ty1, rs1, eT, hk1, hbC, hx1, hr1⟩
    · skip
      refine va_instNo (C := "RowenTongue$Nothing") hx hb hown (hts _ q1203) (hE.2.2.2.1 _ _ (by decide +kernel)) (mm_recv hE hM mm_cE2 (hex6.at hbZ)) dX22_init_44 ?_
      refine lv_if_eq (tgt := 101) hx hb dX22_init_47 (by decide) (fun _ => ?_) (fun h9 => absurd (by decide) h9)
      refine lv_aload_n hx hb dX22_init_101 rfl (lv_at hl 1 rfl) ?_
      refine lv_aload_n hx hb dX22_init_102 rfl (lv_at hl 0 rfl) ?_
      refine va_instNo (C := "RowenTongue$Nothing") hx hb hown (hts _ q1209) (hE.2.2.2.1 _ _ (by decide +kernel)) (mm_recv hE hM mm_cE2 (hex6.at hbZ)) dX22_init_103 ?_
      refine lv_if_eq (tgt := 118) hx hb dX22_init_106 (by decide) (fun _ => ?_) (fun h9 => absurd (by decide) h9)
      refine lv_null hx hb dX22_init_118 ?_
      refine mm_putF (D := Z.1) (ci := 17) (v := .null) (ty := .object "RowenTongue$OpenRow") (C := RX22) (T := TX22) (N := 3) hx hb hts in_X22 tyX22 tyX22_ok nmX22 hown hE.1 hM hS hf5 mm_cX22 1 (by decide) (hts _ q1215) (fun _ h9 => h9) rfl hmn rfl (by decide +kernel) rfl rfl (Nat.le_of_ble_eq_true rfl) dX22_init_119 (fun H locs hM hS => ?_)
      have hM : mm_P Z.1 mm_cl A (mm_U M6 fa (.inr (17, [.ref q_2, .null, .int lb]))) H := hM
      have hc_19 : (mm_U M6 fa (.inr (17, [.ref q_2, .null, .int lb]))) fa = some (.inr (17, [.ref q_2, .null, .int lb])) := mm_U_eq
      have hc_20 : (mm_U M6 fa (.inr (17, [.ref q_2, .null, .int lb]))) b = some (.inr (52, [])) := (mm_U_ne (mm_neC (hex6.at hbZ) hf5 (by decide))).trans (hex6.at hbZ)
      obtain ⟨M_21, eM_21⟩ : ∃ z, z = mm_U M6 fa (.inr (17, [.ref q_2, .null, .int lb])) := ⟨_, rfl⟩
      rw [← eM_21] at hM hc_19 hc_20
      have hexE : mm_Ext M0 M_21 := fun q9 h9 => by rw [eM_21, mm_U_ne (show q9 ≠ fa from fun h8 => h9 (by rw [h8]; exact h0)), hex6 q9 h9]
      have hALe : AL Z M_21 q_2 ar2 10 xs := by
        obtain ⟨md9, fq9, hA1, hA2, hA3⟩ := hN.1
        rw [eM_21]
        exact ⟨md9, fq9, (mm_U_ne (mm_neC hA1 hf5 (by decide))).trans hA1, (mm_U_ne (mm_neA hA2 hf5)).trans hA2, hA3⟩
      exact mm_retvD hx hb hr hlk hM hS ⟨rfl, rfl, rfl, hexE, q_2, ar2, xs, none, by rw [← hfl, eT]; exact hc_19, hALe, hN.2.1, hN.2.2.1.resolve_left (by decide), by rw [← hfl, eT]; exact hX, by rw [← hfl, eT]; exact rfl⟩ dX22_init_122 (by (try dsimp only); omega) (by (try dsimp only); omega)
    · skip
      subst hbu
      refine va_instNo (C := RX15) hx hb hown (hts _ q1203) (hE.2.2.2.1 _ _ (by decide +kernel)) (mm_recv hE hM mm_cX15 (hex6.at hbR)) dX22_init_44 ?_
      refine lv_if_eq (tgt := 101) hx hb dX22_init_47 (by decide) (fun _ => ?_) (fun h9 => absurd (by decide) h9)
      refine lv_aload_n hx hb dX22_init_101 rfl (lv_at hl 1 rfl) ?_
      refine lv_aload_n hx hb dX22_init_102 rfl (lv_at hl 0 rfl) ?_
      refine va_instS hx hb hown (hts _ q1209) (hE.1.1 12 _ mm_cX15).2 (mm_recv hE hM mm_cX15 (hex6.at hbR)) dX22_init_103 ?_
      refine lv_if_eq (tgt := 118) hx hb dX22_init_106 (by decide) (fun h9 => absurd h9 (by decide)) (fun _ => ?_)
      refine lv_aload_n hx hb dX22_init_109 rfl (lv_at hl 0 rfl) ?_
      refine va_castS hx hb hown (hts _ q1209) (hE.1.1 12 _ mm_cX15).2 (mm_recv hE hM mm_cX15 (hex6.at hbR)) dX22_init_110 ?_
      refine lv_astore_n hx hb dX22_init_113 rfl hl (by decide) rfl (fun ls hl => ?_)
      replace hl : lv_has ls 5 [(3, .ref (vr u)), (2, .ref (vr u)), (0, .ref fa), (1, .ref a)] := hl
      refine lv_aload_n hx hb dX22_init_114 rfl (lv_at hl 0 rfl) ?_
      refine lv_goto (tgt := 119) hx hb dX22_init_115 (by decide) ?_
      have hbR0 := hbR
      refine mm_putF (D := Z.1) (ci := 17) (v := .ref (vr u)) (ty := .object "RowenTongue$OpenRow") (C := RX22) (T := TX22) (N := 3) hx hb hts in_X22 tyX22 tyX22_ok nmX22 hown hE.1 hM hS hf5 mm_cX22 1 (by decide) (hts _ q1215) (fun _ h9 => h9) rfl hmn rfl (by decide +kernel) rfl rfl (Nat.le_of_ble_eq_true rfl) dX22_init_119 (fun H locs hM hS => ?_)
      have hM : mm_P Z.1 mm_cl A (mm_U M6 fa (.inr (17, [.ref q_2, .ref (vr u), .int lb]))) H := hM
      have hc_19 : (mm_U M6 fa (.inr (17, [.ref q_2, .ref (vr u), .int lb]))) fa = some (.inr (17, [.ref q_2, .ref (vr u), .int lb])) := mm_U_eq
      have hc_20 : (mm_U M6 fa (.inr (17, [.ref q_2, .ref (vr u), .int lb]))) (vr u) = some (.inr (12, [.null, .int (S.2.2.2.2 u), .int (mm_b (S.2.2.1 u)), .int (S.2.2.2.1 u)])) := (mm_U_ne (mm_neC (hex6.at hbR) hf5 (by decide))).trans (hex6.at hbR)
      obtain ⟨M_21, eM_21⟩ : ∃ z, z = mm_U M6 fa (.inr (17, [.ref q_2, .ref (vr u), .int lb])) := ⟨_, rfl⟩
      rw [← eM_21] at hM hc_19 hc_20
      have hexE : mm_Ext M0 M_21 := fun q9 h9 => by rw [eM_21, mm_U_ne (show q9 ≠ fa from fun h8 => h9 (by rw [h8]; exact h0)), hex6 q9 h9]
      have hALe : AL Z M_21 q_2 ar2 10 xs := by
        obtain ⟨md9, fq9, hA1, hA2, hA3⟩ := hN.1
        rw [eM_21]
        exact ⟨md9, fq9, (mm_U_ne (mm_neC hA1 hf5 (by decide))).trans hA1, (mm_U_ne (mm_neA hA2 hf5)).trans hA2, hA3⟩
      exact mm_retvD hx hb hr hlk hM hS ⟨rfl, rfl, rfl, hexE, q_2, ar2, xs, (some (vr u)), by rw [← hfl, eT]; exact hc_19, hALe, hN.2.1, hN.2.2.1.resolve_left (by decide), by rw [← hfl, eT]; exact hX, by rw [← hfl, eT]; exact ⟨rfl, hu, hbR0, hsu⟩⟩ dX22_init_122 (by (try dsimp only); omega) (by (try dsimp only); omega)
    · skip
      refine va_instS hx hb hown (hts _ q1203) (hE.1.1 11 _ mm_cX14).2 (mm_recv hE hM mm_cX14 (hex6.at hbC)) dX22_init_44 ?_
      refine lv_if_eq (tgt := 101) hx hb dX22_init_47 (by decide) (fun h9 => absurd h9 (by decide)) (fun _ => ?_)
      refine lv_aload_n hx hb dX22_init_50 rfl (lv_at hl 0 rfl) ?_
      refine va_castS hx hb hown (hts _ q1203) (hE.1.1 11 _ mm_cX14).2 (mm_recv hE hM mm_cX14 (hex6.at hbC)) dX22_init_51 ?_
      refine lv_astore_n hx hb dX22_init_54 rfl hl (by decide) rfl (fun ls hl => ?_)
      replace hl : lv_has ls 5 [(3, .ref b), (2, .ref b), (0, .ref fa), (1, .ref a)] := hl
      refine lv_aload_n hx hb dX22_init_55 rfl (lv_at hl 2 rfl) ?_
      refine va_get (D := Z.1) (ci := 17) (v := .ref q_2) (C := RX22) (T := TX22) (N := 3) hx hb hts in_X22 hown hE.1 (hM.at hf5) 0 rfl mm_cX22 0 (by decide) (hts _ q1210) (fun _ h9 => h9) rfl dX22_init_56 ?_
      refine lv_aload_n hx hb dX22_init_59 rfl (lv_at hl 0 rfl) ?_
      refine va_getN (D := Z.1) (ci := 11) (v := .int (nI k1)) (C := RX14) (T := TX14) (N := 3) hx hb hts in_X14 hown hE.1 (hM.at (hex6.at hbC)) 0 rfl mm_cX14 0 (by decide) (va_Nw.use rfl (hE.2.1 _ q891 rfl)) (fun _ h9 => h9) rfl dX22_init_60 ?_
      refine lv_aload_n hx hb dX22_init_63 rfl (lv_at hl 0 rfl) ?_
      refine va_getN (D := Z.1) (ci := 11) (v := .ref ty1) (C := RX14) (T := TX14) (N := 3) hx hb hts in_X14 hown hE.1 (hM.at (hex6.at hbC)) 0 rfl mm_cX14 1 (by decide) (va_Nw.use rfl (hE.2.1 _ q895 rfl)) (fun _ h9 => h9) rfl dX22_init_64 ?_
      have hsz : SizeOf.sizeOf T2 = 1 + (1 + SizeOf.sizeOf (uap S.2.1 x1) + SizeOf.sizeOf k1) + SizeOf.sizeOf (uap S.2.1 r1) := by rw [eT, uins_size]
      have hok6 : mm_ok M6 (some ty1) := fun v9 h9 => by cases h9; obtain ⟨ci9, fs9, h8⟩ := tp_obj hx1; exact ⟨ci9, fs9, hex6.at h8⟩
      have har0 := hN.2.2.1.resolve_left (by decide)
      refine mm_callV (As := [.int (nI k1), .ref ty1]) (rest := []) ⟨hx, hb, hml, hown, hts⟩ hE hST hA (c_J2_set l Z (i := k1) (r := some ty1) hN.1 (by rw [hX.1]; exact hk1) hok6) (cwV 2 hts (lw_V q1204 q1205 q1206 q53 q1207) rfl rfl rfl (by decide +kernel) ⟨(by (try dsimp only); omega), (by (try dsimp only); omega)⟩) hM hS mm_cJ2 hq_18 rfl hl.1 (Nat.le_of_ble_eq_true rfl) dX22_init_67 rfl ⟨(by (try dsimp only); omega), (by (try dsimp only); omega)⟩ (fun _ _ _ _ _ _ h9 => h9.elim) (fun v_19 M_20 H locs hp_21 hM hS => ?_)
      obtain ⟨⟨r0, hr0, rfl⟩, hA7, hk7⟩ := hp_21
      have hex7 : mm_Ext M0 M_20 := al_set_keep hex6 har0 hk7
      have hnar : ∀ ci9 fs9 q9, M6 q9 = some (.inr (ci9, fs9)) → q9 ≠ ar2 := fun ci9 fs9 q9 h9 h8 => by obtain ⟨-, fz, -, hz8, -⟩ := hN.1; rw [← h8, h9] at hz8; cases hz8
      have hf7 : M_20 fa = some (fl_E (some q_2) none lb) := (hk7 fa (hnar _ _ _ hf5)).trans hf5
      have hb7 := hex7.at hbC
      refine mm_cutO (o0 := r0) (pc2 := 73) (ls := ls) (rest := []) (M := M_20) (fun kk9 => ?_) (fun H locs hM hS => ?_) hM hS
      · skip
        rcases hX.2 k1 hk1 with ⟨-, h9⟩ | ⟨x9, ad9, -, h9, ht9⟩
        · skip
          obtain rfl : r0 = none := Option.some.inj (hr0.symm.trans h9)
          refine lv_castN hx hb dX22_init_70 ?_
          exact kk9 _ _ none hM hS rfl
        · skip
          obtain rfl : r0 = some ad9 := Option.some.inj (hr0.symm.trans h9)
          have hq9 := (ht9.light hex7.uL).ct
          obtain ⟨sm9, hq9⟩ : ∃ sm9, ct_at M_20 ad9 sm9 := ⟨_, hq9⟩
          rcases hq9 with ⟨lv9, lk9, hq9⟩ | ⟨f9, t9, b9, r9, hq9⟩ | ⟨i9, w9, b9, r9, hq9⟩ | ⟨rfl, hq9⟩
          · skip
            refine va_castY (C := RX11) hx hb hown (hts _ q1208) (hE.2.1 _ q2869 rfl) (mm_recv hE hM mm_cX11 hq9) dX22_init_70 ?_
            exact kk9 _ _ (some ad9) hM hS rfl
          · skip
            refine va_castY (C := RX12) hx hb hown (hts _ q1208) (hE.2.1 _ q2867 rfl) (mm_recv hE hM mm_cX12 hq9) dX22_init_70 ?_
            exact kk9 _ _ (some ad9) hM hS rfl
          · skip
            refine va_castY (C := RX8) hx hb hown (hts _ q1208) (hE.2.1 _ q2866 rfl) (mm_recv hE hM mm_cX8 hq9) dX22_init_70 ?_
            exact kk9 _ _ (some ad9) hM hS rfl
          · skip
            refine va_castY (C := "RowenTongue$Numbers") hx hb hown (hts _ q1208) (hE.2.1 _ q2868 rfl) (mm_recv hE hM mm_cE1 hq9) dX22_init_70 ?_
            exact kk9 _ _ (some ad9) hM hS rfl
      refine mm_astore hx hb dX22_init_73 hl (by decide) rfl (fun ls hl => ?_)
      replace hl : lv_has ls 5 [(4, va_rf r0), (3, .ref b), (2, .ref b), (0, .ref fa), (1, .ref a)] := hl
      refine lv_aload_n hx hb dX22_init_75 rfl (lv_at hl 3 rfl) ?_
      refine lv_dup hx hb dX22_init_76 rfl ?_
      refine va_get (D := Z.1) (ci := 17) (v := .int lb) (C := RX22) (T := TX22) (N := 3) hx hb hts in_X22 hown hE.1 (hM.at hf7) 0 rfl mm_cX22 2 (by decide) (hts _ q1218) (fun _ h9 => h9) rfl dX22_init_77 ?_
      refine lv_iconst (v := 1) hx hb dX22_init_80 (by decide) ?_
      refine lv_aload_n hx hb dX22_init_81 rfl (lv_at hl 1 rfl) ?_
      refine va_getN (D := Z.1) (ci := 11) (v := .int (nI k1)) (C := RX14) (T := TX14) (N := 3) hx hb hts in_X14 hown hE.1 (hM.at hb7) 0 rfl mm_cX14 0 (by decide) (va_Nw.use rfl (hE.2.1 _ q891 rfl)) (fun _ h9 => h9) rfl dX22_init_82 ?_
      refine lv_ishl hx hb dX22_init_85 ?_
      refine lv_ior hx hb dX22_init_86 ?_
      refine mm_put (D := Z.1) (ci := 17) (v := .int (lb ||| ((1 : Int32) <<< ((nI k1) &&& 31)))) (ty := .int) (C := RX22) (T := TX22) (N := 3) hx hb hts in_X22 tyX22 tyX22_ok nmX22 hown hE.1 hM hS hf7 mm_cX22 2 (by decide) (hts _ q1218) (fun _ h9 => h9) rfl (by decide +kernel) rfl rfl (Nat.le_of_ble_eq_true rfl) dX22_init_87 (fun H locs hM hS => ?_)
      have hM : mm_P Z.1 mm_cl A (mm_U M_20 fa (.inr (17, [.ref q_2, .null, .int (lb ||| ((1 : Int32) <<< ((nI k1) &&& 31)))]))) H := hM
      have hc_22 : (mm_U M_20 fa (.inr (17, [.ref q_2, .null, .int (lb ||| ((1 : Int32) <<< ((nI k1) &&& 31)))]))) fa = some (.inr (17, [.ref q_2, .null, .int (lb ||| ((1 : Int32) <<< ((nI k1) &&& 31)))])) := mm_U_eq
      have hc_23 : (mm_U M_20 fa (.inr (17, [.ref q_2, .null, .int (lb ||| ((1 : Int32) <<< ((nI k1) &&& 31)))]))) b = some (.inr (11, [.int (nI k1), .ref ty1, .ref rs1])) := (mm_U_ne (mm_neC hb7 hf7 (by decide))).trans hb7
      obtain ⟨M_24, eM_24⟩ : ∃ z, z = mm_U M_20 fa (.inr (17, [.ref q_2, .null, .int (lb ||| ((1 : Int32) <<< ((nI k1) &&& 31)))])) := ⟨_, rfl⟩
      rw [← eM_24] at hM hc_22 hc_23
      have hex8 : mm_Ext M0 M_24 := fun q9 h9 => by rw [eM_24, mm_U_ne (show q9 ≠ fa from fun h8 => h9 (by rw [h8]; exact h0)), hex7 q9 h9]
      have hf8 := hc_22
      have hN8 : AN Z M0 M_24 q_2 ar2 10 (xs.set k1 (some ty1)) := ⟨by obtain ⟨md9, fq9, hA1, hA2, hA3⟩ := hA7; rw [eM_24]; exact ⟨md9, fq9, (mm_U_ne (mm_neC hA1 hf7 (by decide))).trans hA1, (mm_U_ne (mm_neA hA2 hf7)).trans hA2, hA3⟩, hN.2.1, hN.2.2.1, hN.2.2.2.1, hex8⟩
      refine lv_aload_n hx hb dX22_init_90 rfl (lv_at hl 1 rfl) ?_
      refine va_getN (D := Z.1) (ci := 11) (v := .ref rs1) (C := RX14) (T := TX14) (N := 3) hx hb hts in_X14 hown hE.1 (hM.at hc_23) 0 rfl mm_cX14 2 (by decide) (va_Nw.use rfl (hE.2.1 _ q899 rfl)) (fun _ h9 => h9) rfl dX22_init_91 ?_
      obtain ⟨d2, b2, hd2, hn9, hcs2⟩ := hC.nowR' hr1
      have hn2 := hn9.ext hex8
      refine mm_cutR (b := b2) (pc2 := 97) (ls := ls) (rest := []) (M := M_24) (fun kk9 => ?_) (fun H locs hM hS => ?_) hM hS
      · skip
        have hw9 := c_nowR l Z hn2
        obtain ⟨sm9, hq9⟩ := hn2.at
        rcases hq9 with ⟨lv9, lk9, lc9, hq9⟩ | ⟨rfl, lb9, ty9, rs9, hq9⟩ | ⟨rfl, hq9⟩
        · skip
          refine mm_callU (As := []) (rest := []) ⟨hx, hb, hml, hown, hts⟩ hE hST hA (hw9.1 _ _ _ _ hq9) (va_cwO (x := ⟨"RowenTongue$Row", "now", "()LRowenTongue$Row;"⟩) (C := RX15) (owner := "RowenTongue$Row") 0 hts (lw_app (lw_in _ [1202, 873, 872, 876, 877, 82] (by decide +kernel) (by decide +kernel)) (lw_meth q878)) rfl rfl rfl q880 (by decide +kernel) ⟨(by (try dsimp only); omega), (by (try dsimp only); omega)⟩) hM hS mm_cX15 hq9 rfl hl.1 (Nat.le_of_ble_eq_true rfl) dX22_init_94 rfl ⟨(by (try simp only [List.map, List.sum_cons, List.sum_nil]); (try dsimp only); omega), (by (try simp only [List.map, List.sum_cons, List.sum_nil]); (try dsimp only); omega)⟩ (fun _ _ _ _ _ _ h9 => h9.elim) (fun v_25 M_26 H locs hp_27 hM hS => ?_)
          obtain ⟨rfl, eM_26⟩ := hp_27
          rw [eM_26] at hM
          exact kk9 _ _ hM hS
        · skip
          refine mm_callU (As := []) (rest := []) ⟨hx, hb, hml, hown, hts⟩ hE hST hA (hw9.2 (Or.inl ⟨_, _, _, hq9⟩)) (va_cwU (x := ⟨"RowenTongue$Row", "now", "()LRowenTongue$Row;"⟩) (C := RX14) (owner := "RowenTongue$Row") 0 hts (lw_app (lw_in _ [1202, 873, 874, 872, 80] (by decide +kernel) (by decide +kernel)) (lw_meth q880)) rfl rfl rfl rfl (by decide +kernel) ⟨(by (try dsimp only); omega), (by (try dsimp only); omega)⟩) hM hS mm_cX14 hq9 rfl hl.1 (Nat.le_of_ble_eq_true rfl) dX22_init_94 rfl ⟨(by (try simp only [List.map, List.sum_cons, List.sum_nil]); (try dsimp only); omega), (by (try simp only [List.map, List.sum_cons, List.sum_nil]); (try dsimp only); omega)⟩ (fun _ _ _ _ _ _ h9 => h9.elim) (fun v_25 M_26 H locs hp_27 hM hS => ?_)
          obtain ⟨rfl, eM_26⟩ := hp_27
          rw [eM_26] at hM
          exact kk9 _ _ hM hS
        · skip
          refine mm_callU (As := []) (rest := []) ⟨hx, hb, hml, hown, hts⟩ hE hST hA (hw9.2 (Or.inr hq9)) (va_cwU (x := ⟨"RowenTongue$Row", "now", "()LRowenTongue$Row;"⟩) (C := "RowenTongue$Nothing") (owner := "RowenTongue$Row") 0 hts (lw_app (lw_in _ [1202, 873, 875, 872, 80] (by decide +kernel) (by decide +kernel)) (lw_meth q880)) rfl rfl rfl rfl (by decide +kernel) ⟨(by (try dsimp only); omega), (by (try dsimp only); omega)⟩) hM hS mm_cE2 hq9 rfl hl.1 (Nat.le_of_ble_eq_true rfl) dX22_init_94 rfl ⟨(by (try simp only [List.map, List.sum_cons, List.sum_nil]); (try dsimp only); omega), (by (try simp only [List.map, List.sum_cons, List.sum_nil]); (try dsimp only); omega)⟩ (fun _ _ _ _ _ _ h9 => h9.elim) (fun v_25 M_26 H locs hp_27 hM hS => ?_)
          obtain ⟨rfl, eM_26⟩ := hp_27
          rw [eM_26] at hM
          exact kk9 _ _ hM hS
      refine lv_astore_n hx hb dX22_init_97 rfl hl (by decide) rfl (fun ls hl => ?_)
      replace hl : lv_has ls 5 [(2, .ref b2), (4, va_rf r0), (3, .ref b), (0, .ref fa), (1, .ref a)] := hl
      refine lv_goto (tgt := 43) hx hb dX22_init_98 (by decide) ?_
      refine ih2 (SizeOf.sizeOf (uap S.2.1 r1)) (by omega) _ _ _ _ _ _ ⟨uap S.2.1 r1, b2, ar2, _, _, _, rfl, lv_sub hl [0, 3, 4] rfl, hN8, hf8, hX.set hk1 hx1, hcs2, by rw [← hfl, eT, ufl_ins], rfl, rfl⟩ hM hS
  · skip
    have hi : i < 10 := (nI_ltI (b := 10) (by omega) (by omega)).1 (Int32.not_le.1 c_17)
    refine lv_aload_n hx hb dX22_init_23 rfl (lv_at hl 1 rfl) ?_
    refine va_get (D := Z.1) (ci := 17) (v := .ref q_2) (C := RX22) (T := TX22) (N := 3) hx hb hts in_X22 hown hE.1 (hM.at hf5) 0 rfl mm_cX22 0 (by decide) (hts _ q1210) (fun _ h9 => h9) rfl dX22_init_24 ?_
    refine lv_null hx hb dX22_init_27 ?_
    have hcp : cap < 2 ^ 18 := by rw [hcap]; split <;> omega
    have hcA : al_cap i cap = 10 ∧ al_mk i cap = (if i = 0 then 1 else 0) ∧ al_ms i cap = (if i = 0 then 10 else 0) := by unfold al_mk al_ms al_cap; rw [hcap]; by_cases h9 : i = 0 <;> simp [h9, hi]
    obtain ⟨hcA1, hcA2, hcA3⟩ := hcA
    have hAdd := c_J2_add l Z hN.1 (r := none) hcp (fun y h9 => by rw [List.eq_of_mem_replicate h9]; exact fun v h8 => by cases h8) (fun v h8 => by cases h8)
    rw [hlen5, hcA1, hcA2, hcA3] at hAdd
    have hrm : cells + (if i = 0 then 1 else 0) = 2 ∧ slots + (if i = 0 then 10 else 0) = 13 := by rw [hc5, hs5]; by_cases h9 : i = 0 <;> simp [h9]
    refine mm_callV (As := [.null]) (rest := []) ⟨hx, hb, hml, hown, hts⟩ hE hST hA hAdd (cwV 1 hts (lw_V q1201 q335 q336 q53 q337) rfl rfl rfl (by decide +kernel) ⟨(by (try dsimp only); omega), (by (try dsimp only); omega)⟩) hM hS mm_cJ2 hq_16 rfl hl.1 (Nat.le_of_ble_eq_true rfl) dX22_init_28 rfl ⟨(by (try dsimp only); omega), (by (try dsimp only); omega)⟩ (fun _ _ _ _ _ _ h9 => h9.elim) (fun v_18 M_19 H locs hp_20 hM hS => ?_)
    obtain ⟨rfl, ar2, hA9, hk9, ho9⟩ := hp_20
    have hf6 : M_19 fa = some (fl_E (some q_2) none 0) := by
      rw [hk9 fa (mm_neC hf5 hq_16 (by decide)) (fun h9 => ?_)]
      · exact hf5
      · rcases ho9 with ⟨h8, -⟩ | h8
        · obtain ⟨-, fz, -, hz8, -⟩ := hN.1; rw [← h8, ← h9, hf5] at hz8; cases hz8
        · rw [← h9, hf5] at h8; cases h8
    have hN6 := hN.add (by rw [hlen5]; omega) (by rw [hlen5, hcA1]; exact hA9) hk9 (by rw [hlen5]; exact ho9)
    rw [hlen5, hcA1] at hN6
    refine lv_pop hx hb dX22_init_31 rfl ?_
    obtain ⟨x_21, ex_21⟩ : ∃ z : Int32, z = (nI i) + 1 := ⟨_, rfl⟩
    refine lv_iinc (v := x_21) (lv' := [(2, .int x_21), (0, .ref fa), (1, .ref a)]) hx hb dX22_init_32 hl (k := 0) rfl (by rw [ex_21]; rfl) (by decide) rfl (fun ls hl => ?_)
    rw [show x_21 = nI (i + 1) from by rw [ex_21]; exact nI_1 i] at hl
    refine lv_goto (tgt := 17) hx hb dX22_init_35 (by decide) ?_
    refine ih (10 - (i + 1)) (by omega) _ _ _ _ _ _ ⟨i + 1, ar2, 10, rfl, hi, lv_sub hl [0, 1, 2] rfl, by rw [List.replicate_succ']; exact hN6, hf6, (if_neg (Nat.succ_ne_zero i)).symm, by rw [if_neg (Nat.succ_ne_zero i)]; (try dsimp only); exact hrm.1, by rw [if_neg (Nat.succ_ne_zero i)]; (try dsimp only); exact hrm.2⟩ hM hS
