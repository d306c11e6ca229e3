/-! ===== the model's putValue ===== -/
set_option maxRecDepth 100000
/-- signs are put, one after the other, up to 300; with the room -/
def pz (s : List Nat × Nat) (ds : List Nat) : List Nat × Nat := ds.foldl ps1 s
theorem pl_cons {a : List Nat} {k : Nat} {ds : List Nat} : pl (pl a [k]) ds = pl a (k :: ds) := by
  show pl ((a ++ [k]).take 300) ds = pl a (k :: ds)
  rw [pl_take]
  unfold pl
  rw [List.append_assoc]; rfl
theorem ps1_b {s : List Nat × Nat} {k : Nat} : s.1.length ≤ (ps1 s k).1.length ∧ s.2 ≤ (ps1 s k).2 ∧ (s.2 ≤ 1500 → (ps1 s k).2 ≤ 1500) ∧ (s.1.length < 300 → s.1.length + 1 ≤ (ps1 s k).1.length) := by
  unfold ps1
  split
  · rw [ap_len, List.length_singleton]
    exact ⟨by omega, (le_ap s [k]).2.1, fun h => ap_cap h (by simp; omega), fun _ => Nat.le_refl _⟩
  · exact ⟨Nat.le_refl _, Nat.le_refl _, id, fun h => absurd h (by assumption)⟩
/-- what all putting keeps -/
def pg (s t : List Nat × Nat) : Prop := t.1.length ≤ 300 ∧ s.1.length ≤ t.1.length ∧ s.2 ≤ t.2 ∧ (s.2 ≤ 1500 → t.2 ≤ 1500)
theorem pg.rf {s : List Nat × Nat} (h : s.1.length ≤ 300) : pg s s := ⟨h, Nat.le_refl _, Nat.le_refl _, id⟩
theorem pg.trans {s t u : List Nat × Nat} (h1 : pg s t) (h2 : pg t u) : pg s u := ⟨h2.1, Nat.le_trans h1.2.1 h2.2.1, Nat.le_trans h1.2.2.1 h2.2.2.1, fun h => h2.2.2.2 (h1.2.2.2 h)⟩
theorem pz_pl : ∀ (ds : List Nat) (s : List Nat × Nat), s.1.length ≤ 300 → (pz s ds).1 = pl s.1 ds ∧ pg s (pz s ds) := by
  intro ds
  induction ds with
  | nil => intro s h; exact ⟨by show s.1 = pl s.1 []; unfold pl; rw [List.append_nil, List.take_of_length_le h], pg.rf h⟩
  | cons k ds ih =>
    intro s h
    obtain ⟨e1, h1⟩ := ps1_pl (k := k) h
    obtain ⟨b1, b2, b3, -⟩ := ps1_b (s := s) (k := k)
    obtain ⟨e2, h2⟩ := ih (ps1 s k) h1
    exact ⟨by show (pz (ps1 s k) ds).1 = _; rw [e2, e1, pl_cons], pg.trans (t := ps1 s k) ⟨h1, b1, b2, b3⟩ h2⟩
/-- the model's putValue, with the room -/
def mp : ev → Bool → Nat → Bool → List Nat × Nat → List Nat × Nat
  | .natCast n, false, _, _, s => if 300 ≤ s.1.length then s else pz s (dgx (nI n))
  | .sub _ _, false, _, _, s => if 300 ≤ s.1.length then s else pz s [70]
  | .pow v l, false, _, _, s => if 300 ≤ s.1.length then s else pz (mp v false 0 true (pz (pz (pz s [91]) [48 + l]) [58])) [93]
  | .add x r, false, _, _, s => if 300 ≤ s.1.length then s else pz (if ev_abs x then mp r true 1 true (pz s [123]) else mp r true 1 false (mp x false 0 true (pz (pz (pz (pz s [123]) []) [48 + 0]) [58]))) [125]
  | .add x r, true, i, f, s => if ev_abs x then mp r true (i + 1) f s else mp r true (i + 1) false (mp x false 0 true (pz (pz (pz s (if f then [] else [44])) [48 + i]) [58]))
  | _, _, _, _, s => s
theorem mp_rec {x r : ev} {i : Nat} {f : Bool} {s : List Nat × Nat} : mp (.add x r) false i f s = if 300 ≤ s.1.length then s else pz (mp (.add x r) true 0 true (pz s [123])) [125] := by simp only [mp]; rfl
theorem mp_mt : ∀ (v : ev) (m : Bool) (i : Nat) (f : Bool) (s : List Nat × Nat), s.1.length ≤ 300 → (mp v m i f s).1 = mt v m i f s.1 ∧ pg s (mp v m i f s) := by
  have hq : ∀ (s : List Nat × Nat) (ds : List Nat), s.1.length ≤ 300 → (pz s ds).1 = pl s.1 ds ∧ pg s (pz s ds) := fun s ds h => pz_pl ds s h
  intro v
  induction v with
  | natCast n =>
    intro m i f s h
    cases m with
    | true => simp only [mp, mt]; exact ⟨trivial, pg.rf h⟩
    | false => simp only [mp, mt]; split; exact ⟨rfl, pg.rf h⟩; exact hq _ _ h
  | sub a b _ _ =>
    intro m i f s h
    cases m with
    | true => simp only [mp, mt]; exact ⟨trivial, pg.rf h⟩
    | false => simp only [mp, mt]; split; exact ⟨rfl, pg.rf h⟩; exact hq _ _ h
  | pow v l ih =>
    intro m i f s h
    cases m with
    | true => simp only [mp, mt]; exact ⟨trivial, pg.rf h⟩
    | false =>
      simp only [mp, mt]
      split
      · exact ⟨rfl, pg.rf h⟩
      · obtain ⟨e1, g1⟩ := hq s [91] h
        obtain ⟨e2, g2⟩ := hq _ [48 + l] g1.1
        obtain ⟨e3, g3⟩ := hq _ [58] g2.1
        obtain ⟨e4, g4⟩ := ih false 0 true _ g3.1
        obtain ⟨e5, g5⟩ := hq _ [93] g4.1
        exact ⟨by rw [e5, e4, e3, e2, e1], g1.trans (g2.trans (g3.trans (g4.trans g5)))⟩
  | add x r ihx ihr =>
    have key : ∀ (i : Nat) (f : Bool) (s : List Nat × Nat), s.1.length ≤ 300 → (mp (.add x r) true i f s).1 = mt (.add x r) true i f s.1 ∧ pg s (mp (.add x r) true i f s) := by
      intro i f s h
      simp only [mp, mt]
      split
      · exact ihr _ _ _ _ h
      · obtain ⟨e1, g1⟩ := hq s (if f then [] else [44]) h
        obtain ⟨e2, g2⟩ := hq _ [48 + i] g1.1
        obtain ⟨e3, g3⟩ := hq _ [58] g2.1
        obtain ⟨e4, g4⟩ := ihx false 0 true _ g3.1
        obtain ⟨e5, g5⟩ := ihr true (i + 1) false _ g4.1
        exact ⟨by rw [e5, e4, e3, e2, e1], g1.trans (g2.trans (g3.trans (g4.trans g5)))⟩
    intro m i f s h
    cases m with
    | true => exact key i f s h
    | false =>
      rw [mp_rec, mt_rec]
      split
      · exact ⟨rfl, pg.rf h⟩
      · obtain ⟨e1, g1⟩ := hq s [123] h
        obtain ⟨e2, g2⟩ := key 0 true _ g1.1
        obtain ⟨e3, g3⟩ := hq _ [125] g2.1
        exact ⟨by rw [e3, e2, e1], g1.trans (g2.trans g3)⟩
  | _ => intro m i f s h; cases m <;> (simp only [mp, mt]; exact ⟨trivial, pg.rf h⟩)
theorem pz_1 {s : List Nat × Nat} {k : Nat} : pz s [k] = ps1 s k := rfl
theorem pz_snoc {s : List Nat × Nat} {ds : List Nat} {k : Nat} : pz s (ds ++ [k]) = ps1 (pz s ds) k := by simp [pz]
/-- all that was stays; a new builder -/
theorem tb_post.ext {Z : mm_G} {M M1 M' : mm_M} {b ar cap mn : Nat} {cs : List Nat} (h : tb_post Z M1 M' b ar cap mn cs) (hx : mm_Ext M M1) (hb : M b = none) (ha : M ar = none) : mm_Ext M M' := by
  intro q hq
  obtain ⟨ar', -, hk, ho⟩ := h
  have h1 := hx q hq
  rw [hk q (fun h9 => hq (h9 ▸ hb)) (fun h9 => ?_), h1]
  rcases ho with h8 | h8
  · exact hq (by rw [h9, h8]; exact ha)
  · rw [← h9, h1] at h8; exact hq h8
theorem tb_post.none {Z : mm_G} {M M1 M' : mm_M} {b ar cap mn : Nat} {cs : List Nat} (h : tb_post Z M1 M' b ar cap mn cs) (hx : mm_Ext M M1) (ha : M ar = none) : ∃ ar', TB Z M' b ar' (tb_cap mn cap) cs ∧ M ar' = none := by
  obtain ⟨ar', hT, hk, ho⟩ := h
  refine ⟨ar', hT, ?_⟩
  rcases ho with h8 | h8
  · rw [h8]; exact ha
  · exact Classical.byContradiction fun h9 => h9 (by rw [← hx ar' h9]; exact h8)
theorem TB.ext {Z : mm_G} {M M' : mm_M} {b ar cap : Nat} {cs : List Nat} (h : TB Z M b ar cap cs) (hx : mm_Ext M M') : TB Z M' b ar cap cs := ⟨hx.at h.1, hx.at h.2.1, h.2.2⟩
theorem mm_Ext.BF {Z : mm_G} {M M' : mm_M} {b ar : Nat} {s : List Nat × Nat} (hx : mm_Ext M M') (h : TB Z M b ar s.2 s.1) : BF Z M M' b ar ar s := ⟨h.ext hx, fun q hq _ _ => hx q hq, Or.inl rfl⟩
theorem mm_Ext.tx {Z : mm_G} {M M' : mm_M} {ar : Nat} (hx : mm_Ext M M') (h : tx_T Z M ar) : tx_T Z M' ar := by
  obtain ⟨⟨d1, d2, h3, h4, hd⟩, n3, n4, ⟨s0, ⟨hh0, hz0, hs0, ha0, hl0, ho0⟩, m0⟩, s1, ⟨hh1, hz1, hs1, ha1, hl1, ho1⟩, m1⟩ := h
  exact ⟨⟨d1, d2, hx.at h3, hx.at h4, hd⟩, n3, n4, ⟨s0, ⟨hh0, hz0, hx.at hs0, hx.at ha0, hl0, ho0⟩, m0⟩, s1, ⟨hh1, hz1, hx.at hs1, hx.at ha1, hl1, ho1⟩, m1⟩
theorem ST.ext {Z : mm_G} {M M' : mm_M} {a ar : Nat} {cs : List Nat} (h : ST Z M a ar cs) (hx : mm_Ext M M') : ST Z M' a ar cs := by
  obtain ⟨h1, h2, h3, h4, h5⟩ := h
  exact ⟨h1, h2, hx.at h3, hx.at h4, h5⟩
theorem ST.BF {Z : mm_G} {M M' : mm_M} {b br b2 a ar cap : Nat} {s' : List Nat × Nat} {cs ds : List Nat} (h : ST Z M a ar cs) (hB : BF Z M M' b br b2 s') (hT : TB Z M b br cap ds) (hn : ar ≠ br) : ST Z M' a ar cs := by
  obtain ⟨h1, h2, h3, h4, h5⟩ := h
  refine ⟨h1, h2, ?_, ?_, h5⟩
  · rw [hB.2.1 a (by rw [h3]; exact fun h9 => by cases h9) (mm_neC h3 hT.1 (by decide)) (Ne.symm (mm_neA hT.2.1 h3))]; exact h3
  · rw [hB.2.1 ar (by rw [h4]; exact fun h9 => by cases h9) (mm_neA h4 hT.1) hn]; exact h4
theorem mr.monoB {Z : mm_G} {M M' : mm_M} {T : List pt_R} (h : mm_Kt M M') (v : ev) (i : Nat) (f : Nat → Option Nat) (o : Option Nat) (h9 : mr Z M T v i f o) : mr Z M' T v i f o := by
  unfold mr at h9
  split at h9
  · obtain ⟨a, h1, h2⟩ := h9; simp only [mr]; exact ⟨a, h1, h.1 _ _ _ h2 (by decide)⟩
  · rename_i k e
    obtain ⟨a, r, sc, h1, h2, h3, h5, h6⟩ := h9; simp only [mr]; exact ⟨a, r, sc, h1, h2, h3, h.1 _ _ _ h5 (by decide), mr.monoB h e 1 _ _ h6⟩
  · rename_i v l
    obtain ⟨a, b, h1, h2, h3, h4⟩ := h9; simp only [mr]; exact ⟨a, b, h1, h.1 _ _ _ h2 (by decide), mr.monoB h v 0 _ _ h3, h4⟩
  · rename_i x r
    obtain ⟨a, q, f, h1, h2, h3, h4, h5⟩ := h9; simp only [mr]; exact ⟨a, q, f, h1, h.1 _ _ _ h2 (by decide), h.2 _ _ _ _ h3, h4.imp id (fun h6 => ⟨h6.1, mr.monoB h x 0 _ _ h6.2⟩), mr.monoB h r 3 _ _ h5⟩
  · simp only [mr]; exact h9
  · rename_i v n e
    obtain ⟨a, b, nx, h1, h2, h3, h4⟩ := h9; simp only [mr]; exact ⟨a, b, nx, h1, h.1 _ _ _ h2 (by decide), mr.monoB h v 0 _ _ h3, mr.monoB h e 1 _ _ h4⟩
  · rename_i t n e
    obtain ⟨a, nx, h1, h3, h4⟩ := h9; simp only [mr]; exact ⟨a, nx, h1, h.1 _ _ _ h3 (by decide), mr.monoB h e 1 _ _ h4⟩
  · rename_i x r i
    obtain ⟨h4, h5⟩ := h9; simp only [mr]; exact ⟨h4.imp id (fun h6 => ⟨h6.1, mr.monoB h x 0 _ _ h6.2⟩), mr.monoB h r (i + 3) _ _ h5⟩
  · simp only [mr]; exact h9
  · exact h9.elim
termination_by SizeOf.sizeOf v
decreasing_by all_goals (subst_vars; simp_all; try omega)
/-- the sign of a label -/
theorem lb_ch {l : Nat} (h : l ≤ 9) : (((48 + nI l : Int32).toUInt32 % 65536).toInt32 : Int32) = nI (48 + l) := by
  have hk : ∀ k : Fin 10, (((48 + nI k.val : Int32).toUInt32 % 65536).toInt32 : Int32) = nI (48 + k.val) := by decide +kernel
  exact hk ⟨l, by omega⟩
theorem dgx_ok (x : Int32) : tb_ok (dgx x) := by
  obtain ⟨b, n, h, rfl⟩ := sg_of x
  rw [dgx_sg h]; exact dgs_ok b n

theorem pz_0 {s : List Nat × Nat} : pz s [] = s := rfl
/-- all values' texts, by the model -/
def putC (l : Launch) (Z : mm_G) (T : List pt_R) (v : ev) : Prop := ∀ (s : List Nat × Nat) (M : mm_M) (va b ar : Nat), s.1.length ≤ 300 → s.2 ≤ 1500 → TB Z M b ar s.2 s.1 → tx_T Z M ar → mr Z M T v 0 (fun _ => none) (some va) →
  mm_C l Z yX2_putValue (ws_ yX2_putValue cX2_putValue 4 none) { frames := 310 - s.1.length + 10, cells := ((mp v false 0 true s).2 - s.2) + 4 * ((mp v false 0 true s).1.length - s.1.length), slots := (2 * (mp v false 0 true s).2 - 2 * s.2) + 40 * ((mp v false 0 true s).1.length - s.1.length), locals := 60 * (310 - s.1.length) + 700 } [.ref va, .ref b] M (fun v9 M' => v9 = none ∧ ∃ ar', BF Z M M' b ar ar' (mp v false 0 true s)) mm_nx
set_option maxHeartbeats 4000000 in
set_option maxRecDepth 100000 in
theorem c_X2_putValue_f (l : Launch) (Z : mm_G) {M : mm_M} {ss : List Nat × Nat} {va b ar : Nat} (hl9 : ss.1.length ≤ 300) (hc9 : ss.2 ≤ 1500) (hT9 : TB Z M b ar ss.2 ss.1) (hx9 : tx_T Z M ar) {k n : Nat} {sc : Option Nat} {e1 e2 : ev} (hv9 : M va = some (mw_E 2 (nI k) none none sc)) : mm_C l Z yX2_putValue (ws_ yX2_putValue cX2_putValue 4 none) { frames := 310 - ss.1.length + 10, cells := ((mp (.sub e1 e2) false 0 true ss).2 - ss.2) + 4 * ((mp (.sub e1 e2) false 0 true ss).1.length - ss.1.length), slots := (2 * (mp (.sub e1 e2) false 0 true ss).2 - 2 * ss.2) + 40 * ((mp (.sub e1 e2) false 0 true ss).1.length - ss.1.length), locals := 60 * (310 - ss.1.length) + 700 } [.ref va, .ref b] M ((fun v9 M' => v9 = none ∧ ∃ ar', BF Z M M' b ar ar' (mp (.sub e1 e2) false 0 true ss))) mm_nx := by
  refine mm_ofW (cc := cX2_putValue) (maxL := 4) (ret := none) (by decide) rfl (Nat.le_of_ble_eq_true rfl) ?_
  intro p e s m below meth c A ls hx hb hr hlk hml hown hmn hts htab hE hST hA hM hS hl
  replace hl : lv_has ls 4 [(0, .ref va), (1, .ref b)] := hl
  have hb_1 := hT9.1
  simp only [mp, pz_1]
  refine lv_aload_n hx hb dX2_putValue_0 rfl (lv_at hl 1 rfl) ?_
  refine mm_callV (As := []) (rest := []) ⟨hx, hb, hml, hown, hts⟩ hE hST hA (c_J19_length l Z (M := M) (h0 := b) (f0 := (some ar)) (f1 := 0) (f2 := false) (f3 := (nI ss.1.length)) hb_1) (cwV 0 hts (lw_V q2742 q1483 q2860 q93 q1484) rfl rfl rfl (by decide +kernel) ⟨(by (try dsimp only); omega), (by (try dsimp only); omega)⟩) hM hS mm_cJ19 hb_1 rfl hl.1 (Nat.le_of_ble_eq_true rfl) dX2_putValue_1 rfl ⟨(by (try dsimp only); omega), (by (try dsimp only); omega)⟩ (fun _ _ _ _ _ _ h9 => h9.elim) (fun v_2 M_3 H locs hp_4 hM hS => ?_)
  obtain ⟨rfl, eM_3⟩ := hp_4
  rw [eM_3] at hM
  refine lv_sipush (v := 300) hx hb dX2_putValue_4 (by decide) ?_
  refine lv_icmp_lt (tgt := 11) hx hb dX2_putValue_7 (by decide) (fun c_5 => ?_) (fun c_5 => ?_)
  · skip
    have h3 : ss.1.length < 300 := (nI_ltI (a := ss.1.length) (b := 300) (by omega) (by omega)).1 c_5
    have h4 : ¬ 300 ≤ ss.1.length := by omega
    simp only [if_neg h4]
    obtain ⟨baw_6, bbw_6, bcw_6, bdw_6⟩ := ps1_b (s := ss) (k := 70)
    have bew_6 := (ps1_pl (s := ss) (k := 70) (by omega)).2
    have bfw_6 := bcw_6 (by omega)
    refine lv_aload_n hx hb dX2_putValue_11 rfl (lv_at hl 0 rfl) ?_
    refine va_get (D := Z.1) (ci := 32) (v := .int 2) (C := RX38) (T := TX38) (N := 5) hx hb hts in_X38 hown hE.1 (hM.at hv9) 0 rfl mm_cX38 0 (by decide) (hts _ q2782) (fun _ h9 => h9) rfl dX2_putValue_12 ?_
    refine lv_iconst (v := 1) hx hb dX2_putValue_15 (by decide) ?_
    refine lv_icmp_ne (tgt := 70) hx hb dX2_putValue_16 (by decide) (fun _ => ?_) (fun h9 => absurd h9 (by decide))
    refine lv_aload_n hx hb dX2_putValue_70 rfl (lv_at hl 0 rfl) ?_
    refine va_get (D := Z.1) (ci := 32) (v := .int 2) (C := RX38) (T := TX38) (N := 5) hx hb hts in_X38 hown hE.1 (hM.at hv9) 0 rfl mm_cX38 0 (by decide) (hts _ q2782) (fun _ h9 => h9) rfl dX2_putValue_71 ?_
    refine lv_iconst (v := 2) hx hb dX2_putValue_74 (by decide) ?_
    refine lv_icmp_ne (tgt := 87) hx hb dX2_putValue_75 (by decide) (fun h9 => absurd (by decide) h9) (fun _ => ?_)
    refine lv_aload_n hx hb dX2_putValue_78 rfl (lv_at hl 1 rfl) ?_
    refine lv_bipush (v := 70) hx hb dX2_putValue_79 (by decide) ?_
    rw [show (70 : Int32) = nI 70 from by decide]
    refine mm_callS (As := [.ref b, .int (nI 70)]) (rest := []) ⟨hx, hb, hml, hown, hts⟩ hE hST hA (c_X2_put l Z (ss := ss) (k := 70) (by decide) (by omega) (by omega) hT9) (va_cwS 2 hts (lw_S q2743 q2744 q54 q2745) rfl rfl rfl (by decide +kernel) ⟨(by (try dsimp only); omega), (by (try dsimp only); omega)⟩) hM hS rfl hl.1 (Nat.le_of_ble_eq_true rfl) dX2_putValue_81 rfl ⟨(by (try dsimp only); omega), (by (try dsimp only); omega)⟩ (fun _ _ _ _ _ _ h9 => h9.elim) (fun v_7 M_8 H locs hp_9 hM hS => ?_)
    obtain ⟨rfl, ar_10, B_11⟩ := hp_9
    have hT_12 := B_11.1
    have hx_13 := B_11.tx hT9 hx9
    have B_14 := (BF.rf hT9).trans B_11
    have hc_15 := (B_11.Kt hT9).1 _ _ _ hv9 (by decide)
    have hb_16 := hT_12.1
    refine lv_goto (tgt := 210) hx hb dX2_putValue_84 (by decide) ?_
    exact mm_retv hx hb hr hlk hM hS ⟨rfl, _, B_14⟩ dX2_putValue_210 (by (try dsimp only); omega) (by (try dsimp only); omega)
  · skip
    have h3 : 300 ≤ ss.1.length := Nat.le_of_not_lt (fun h9 => c_5 ((nI_ltI (a := ss.1.length) (b := 300) (by omega) (by omega)).2 h9))
    rw [if_pos h3]
    exact mm_retv hx hb hr hlk hM hS ⟨rfl, _, BF.rf hT9⟩ dX2_putValue_10 (by (try dsimp only); omega) (by (try dsimp only); omega)
set_option maxHeartbeats 4000000 in
set_option maxRecDepth 100000 in
theorem c_X2_putValue_c (l : Launch) (Z : mm_G) {M : mm_M} {ss : List Nat × Nat} {va b ar : Nat} (hl9 : ss.1.length ≤ 300) (hc9 : ss.2 ≤ 1500) (hT9 : TB Z M b ar ss.2 ss.1) (hx9 : tx_T Z M ar) {T : List pt_R} {u : ev} {k : Nat} (hv9 : mr Z M T (.pow u k) 0 (fun _ => none) (some va)) (ihu : putC l Z T u) : mm_C l Z yX2_putValue (ws_ yX2_putValue cX2_putValue 4 none) { frames := 310 - ss.1.length + 10, cells := ((mp (.pow u k) false 0 true ss).2 - ss.2) + 4 * ((mp (.pow u k) false 0 true ss).1.length - ss.1.length), slots := (2 * (mp (.pow u k) false 0 true ss).2 - 2 * ss.2) + 40 * ((mp (.pow u k) false 0 true ss).1.length - ss.1.length), locals := 60 * (310 - ss.1.length) + 700 } [.ref va, .ref b] M ((fun v9 M' => v9 = none ∧ ∃ ar', BF Z M M' b ar ar' (mp (.pow u k) false 0 true ss))) mm_nx := by
  refine mm_ofW (cc := cX2_putValue) (maxL := 4) (ret := none) (by decide) rfl (Nat.le_of_ble_eq_true rfl) ?_
  intro p e s m below meth c A ls hx hb hr hlk hml hown hmn hts htab hE hST hA hM hS hl
  replace hl : lv_has ls 4 [(0, .ref va), (1, .ref b)] := hl
  simp only [mr] at hv9
  obtain ⟨a8, bp, e8, hva, hu9, hk9⟩ := hv9
  cases e8
  have hb_1 := hT9.1
  simp only [mp, pz_1]
  refine lv_aload_n hx hb dX2_putValue_0 rfl (lv_at hl 1 rfl) ?_
  refine mm_callV (As := []) (rest := []) ⟨hx, hb, hml, hown, hts⟩ hE hST hA (c_J19_length l Z (M := M) (h0 := b) (f0 := (some ar)) (f1 := 0) (f2 := false) (f3 := (nI ss.1.length)) hb_1) (cwV 0 hts (lw_V q2742 q1483 q2860 q93 q1484) rfl rfl rfl (by decide +kernel) ⟨(by (try dsimp only); omega), (by (try dsimp only); omega)⟩) hM hS mm_cJ19 hb_1 rfl hl.1 (Nat.le_of_ble_eq_true rfl) dX2_putValue_1 rfl ⟨(by (try dsimp only); omega), (by (try dsimp only); omega)⟩ (fun _ _ _ _ _ _ h9 => h9.elim) (fun v_2 M_3 H locs hp_4 hM hS => ?_)
  obtain ⟨rfl, eM_3⟩ := hp_4
  rw [eM_3] at hM
  refine lv_sipush (v := 300) hx hb dX2_putValue_4 (by decide) ?_
  refine lv_icmp_lt (tgt := 11) hx hb dX2_putValue_7 (by decide) (fun c_5 => ?_) (fun c_5 => ?_)
  · skip
    have h3 : ss.1.length < 300 := (nI_ltI (a := ss.1.length) (b := 300) (by omega) (by omega)).1 c_5
    have h4 : ¬ 300 ≤ ss.1.length := by omega
    simp only [if_neg h4]
    obtain ⟨baw_6, bbw_6, bcw_6, bdw_6⟩ := ps1_b (s := ss) (k := 91)
    have bew_6 := (ps1_pl (s := ss) (k := 91) (by omega)).2
    have bfw_6 := bcw_6 (by omega)
    obtain ⟨baw_7, bbw_7, bcw_7, bdw_7⟩ := ps1_b (s := (ps1 ss 91)) (k := 48 + k)
    have bew_7 := (ps1_pl (s := (ps1 ss 91)) (k := 48 + k) (by omega)).2
    have bfw_7 := bcw_7 (by omega)
    obtain ⟨baw_8, bbw_8, bcw_8, bdw_8⟩ := ps1_b (s := (ps1 (ps1 ss 91) (48 + k))) (k := 58)
    have bew_8 := (ps1_pl (s := (ps1 (ps1 ss 91) (48 + k))) (k := 58) (by omega)).2
    have bfw_8 := bcw_8 (by omega)
    have hpm := (mp_mt u false 0 true (ps1 (ps1 (ps1 ss 91) (48 + k)) 58) (by omega)).2
    obtain ⟨hp1, hp2, hp3, hp4⟩ := hpm
    have hp5 := hp4 (by omega)
    obtain ⟨baw_9, bbw_9, bcw_9, bdw_9⟩ := ps1_b (s := (mp u false 0 true (ps1 (ps1 (ps1 ss 91) (48 + k)) 58))) (k := 93)
    have bew_9 := (ps1_pl (s := (mp u false 0 true (ps1 (ps1 (ps1 ss 91) (48 + k)) 58))) (k := 93) (by omega)).2
    have bfw_9 := bcw_9 (by omega)
    refine lv_aload_n hx hb dX2_putValue_11 rfl (lv_at hl 0 rfl) ?_
    refine va_get (D := Z.1) (ci := 32) (v := .int 4) (C := RX38) (T := TX38) (N := 5) hx hb hts in_X38 hown hE.1 (hM.at hva) 0 rfl mm_cX38 0 (by decide) (hts _ q2782) (fun _ h9 => h9) rfl dX2_putValue_12 ?_
    refine lv_iconst (v := 1) hx hb dX2_putValue_15 (by decide) ?_
    refine lv_icmp_ne (tgt := 70) hx hb dX2_putValue_16 (by decide) (fun _ => ?_) (fun h9 => absurd h9 (by decide))
    refine lv_aload_n hx hb dX2_putValue_70 rfl (lv_at hl 0 rfl) ?_
    refine va_get (D := Z.1) (ci := 32) (v := .int 4) (C := RX38) (T := TX38) (N := 5) hx hb hts in_X38 hown hE.1 (hM.at hva) 0 rfl mm_cX38 0 (by decide) (hts _ q2782) (fun _ h9 => h9) rfl dX2_putValue_71 ?_
    refine lv_iconst (v := 2) hx hb dX2_putValue_74 (by decide) ?_
    refine lv_icmp_ne (tgt := 87) hx hb dX2_putValue_75 (by decide) (fun _ => ?_) (fun h9 => absurd h9 (by decide))
    refine lv_aload_n hx hb dX2_putValue_87 rfl (lv_at hl 0 rfl) ?_
    refine va_get (D := Z.1) (ci := 32) (v := .int 4) (C := RX38) (T := TX38) (N := 5) hx hb hts in_X38 hown hE.1 (hM.at hva) 0 rfl mm_cX38 0 (by decide) (hts _ q2782) (fun _ h9 => h9) rfl dX2_putValue_88 ?_
    refine lv_iconst (v := 4) hx hb dX2_putValue_91 (by decide) ?_
    refine lv_icmp_ne (tgt := 136) hx hb dX2_putValue_92 (by decide) (fun h9 => absurd (by decide) h9) (fun _ => ?_)
    refine lv_aload_n hx hb dX2_putValue_95 rfl (lv_at hl 1 rfl) ?_
    refine lv_bipush (v := 91) hx hb dX2_putValue_96 (by decide) ?_
    rw [show (91 : Int32) = nI 91 from by decide]
    refine mm_callS (As := [.ref b, .int (nI 91)]) (rest := []) ⟨hx, hb, hml, hown, hts⟩ hE hST hA (c_X2_put l Z (ss := ss) (k := 91) (by decide) (by omega) (by omega) hT9) (va_cwS 2 hts (lw_S q2743 q2744 q54 q2745) rfl rfl rfl (by decide +kernel) ⟨(by (try dsimp only); omega), (by (try dsimp only); omega)⟩) hM hS rfl hl.1 (Nat.le_of_ble_eq_true rfl) dX2_putValue_98 rfl ⟨(by (try dsimp only); omega), (by (try dsimp only); omega)⟩ (fun _ _ _ _ _ _ h9 => h9.elim) (fun v_10 M_11 H locs hp_12 hM hS => ?_)
    obtain ⟨rfl, ar_13, B_14⟩ := hp_12
    have hT_15 := B_14.1
    have hx_16 := B_14.tx hT9 hx9
    have B_17 := (BF.rf hT9).trans B_14
    have hc_18 := (B_14.Kt hT9).1 _ _ _ hva (by decide)
    have hb_19 := hT_15.1
    refine lv_aload_n hx hb dX2_putValue_101 rfl (lv_at hl 1 rfl) ?_
    refine lv_bipush (v := 48) hx hb dX2_putValue_102 (by decide) ?_
    refine lv_aload_n hx hb dX2_putValue_104 rfl (lv_at hl 0 rfl) ?_
    refine va_get (D := Z.1) (ci := 32) (v := .int (nI k)) (C := RX38) (T := TX38) (N := 5) hx hb hts in_X38 hown hE.1 (hM.at hc_18) 0 rfl mm_cX38 1 (by decide) (hts _ q2783) (fun _ h9 => h9) rfl dX2_putValue_105 ?_
    refine lv_iadd hx hb dX2_putValue_108 ?_
    refine lv_i2c (v := ((48 + (nI k)).toUInt32 % 65536).toInt32) hx hb dX2_putValue_109 rfl ?_
    rw [show (((48 + (nI k)).toUInt32 % 65536).toInt32 : Int32) = nI (48 + k) from lb_ch hk9]
    refine mm_callS (As := [.ref b, .int (nI (48 + k))]) (rest := []) ⟨hx, hb, hml, hown, hts⟩ hE hST hA (c_X2_put l Z (ss := (ps1 ss 91)) (k := 48 + k) (by omega) (by omega) (by omega) hT_15) (va_cwS 2 hts (lw_S q2743 q2744 q54 q2745) rfl rfl rfl (by decide +kernel) ⟨(by (try dsimp only); omega), (by (try dsimp only); omega)⟩) hM hS rfl hl.1 (Nat.le_of_ble_eq_true rfl) dX2_putValue_110 rfl ⟨(by (try dsimp only); omega), (by (try dsimp only); omega)⟩ (fun _ _ _ _ _ _ h9 => h9.elim) (fun v_20 M_21 H locs hp_22 hM hS => ?_)
    obtain ⟨rfl, ar_23, B_24⟩ := hp_22
    have hT_25 := B_24.1
    have hx_26 := B_24.tx hT_15 hx_16
    have B_27 := B_17.trans B_24
    have hc_28 := (B_24.Kt hT_15).1 _ _ _ hc_18 (by decide)
    have hb_29 := hT_25.1
    refine lv_aload_n hx hb dX2_putValue_113 rfl (lv_at hl 1 rfl) ?_
    refine lv_bipush (v := 58) hx hb dX2_putValue_114 (by decide) ?_
    rw [show (58 : Int32) = nI 58 from by decide]
    refine mm_callS (As := [.ref b, .int (nI 58)]) (rest := []) ⟨hx, hb, hml, hown, hts⟩ hE hST hA (c_X2_put l Z (ss := (ps1 (ps1 ss 91) (48 + k))) (k := 58) (by decide) (by omega) (by omega) hT_25) (va_cwS 2 hts (lw_S q2743 q2744 q54 q2745) rfl rfl rfl (by decide +kernel) ⟨(by (try dsimp only); omega), (by (try dsimp only); omega)⟩) hM hS rfl hl.1 (Nat.le_of_ble_eq_true rfl) dX2_putValue_116 rfl ⟨(by (try dsimp only); omega), (by (try dsimp only); omega)⟩ (fun _ _ _ _ _ _ h9 => h9.elim) (fun v_30 M_31 H locs hp_32 hM hS => ?_)
    obtain ⟨rfl, ar_33, B_34⟩ := hp_32
    have hT_35 := B_34.1
    have hx_36 := B_34.tx hT_25 hx_26
    have B_37 := B_27.trans B_34
    have hc_38 := (B_34.Kt hT_25).1 _ _ _ hc_28 (by decide)
    have hb_39 := hT_35.1
    refine lv_aload_n hx hb dX2_putValue_119 rfl (lv_at hl 0 rfl) ?_
    refine va_get (D := Z.1) (ci := 32) (v := .ref bp) (C := RX38) (T := TX38) (N := 5) hx hb hts in_X38 hown hE.1 (hM.at hc_38) 0 rfl mm_cX38 3 (by decide) (hts _ q2785) (fun _ h9 => h9) rfl dX2_putValue_120 ?_
    refine lv_aload_n hx hb dX2_putValue_123 rfl (lv_at hl 1 rfl) ?_
    have hih := ihu (ps1 (ps1 (ps1 ss 91) (48 + k)) 58) M_31 bp b ar_33 (by omega) (by omega) hT_35 hx_36 (mr.monoB (B_34.Kt hT_25) _ _ _ _ (mr.monoB (B_24.Kt hT_15) _ _ _ _ (mr.monoB (B_14.Kt hT9) _ _ _ _ hu9)))
    refine mm_callS (As := [.ref bp, .ref b]) (rest := []) ⟨hx, hb, hml, hown, hts⟩ hE hST hA hih (va_cwS 2 hts (lw_S q2829 q2830 q54 q2831) rfl rfl rfl (by decide +kernel) ⟨(by (try dsimp only); omega), (by (try dsimp only); omega)⟩) hM hS rfl hl.1 (Nat.le_of_ble_eq_true rfl) dX2_putValue_124 rfl ⟨(by (try dsimp only); omega), (by (try dsimp only); omega)⟩ (fun _ _ _ _ _ _ h9 => h9.elim) (fun v_40 M_41 H locs hp_42 hM hS => ?_)
    obtain ⟨rfl, ar_43, B_44⟩ := hp_42
    have hT_45 := B_44.1
    have hx_46 := B_44.tx hT_35 hx_36
    have B_47 := B_37.trans B_44
    have hc_48 := (B_44.Kt hT_35).1 _ _ _ hc_38 (by decide)
    have hb_49 := hT_45.1
    refine lv_aload_n hx hb dX2_putValue_127 rfl (lv_at hl 1 rfl) ?_
    refine lv_bipush (v := 93) hx hb dX2_putValue_128 (by decide) ?_
    rw [show (93 : Int32) = nI 93 from by decide]
    refine mm_callS (As := [.ref b, .int (nI 93)]) (rest := []) ⟨hx, hb, hml, hown, hts⟩ hE hST hA (c_X2_put l Z (ss := (mp u false 0 true (ps1 (ps1 (ps1 ss 91) (48 + k)) 58))) (k := 93) (by decide) (by omega) (by omega) hT_45) (va_cwS 2 hts (lw_S q2743 q2744 q54 q2745) rfl rfl rfl (by decide +kernel) ⟨(by (try dsimp only); omega), (by (try dsimp only); omega)⟩) hM hS rfl hl.1 (Nat.le_of_ble_eq_true rfl) dX2_putValue_130 rfl ⟨(by (try dsimp only); omega), (by (try dsimp only); omega)⟩ (fun _ _ _ _ _ _ h9 => h9.elim) (fun v_50 M_51 H locs hp_52 hM hS => ?_)
    obtain ⟨rfl, ar_53, B_54⟩ := hp_52
    have hT_55 := B_54.1
    have hx_56 := B_54.tx hT_45 hx_46
    have B_57 := B_47.trans B_54
    have hc_58 := (B_54.Kt hT_45).1 _ _ _ hc_48 (by decide)
    have hb_59 := hT_55.1
    refine lv_goto (tgt := 210) hx hb dX2_putValue_133 (by decide) ?_
    exact mm_retv hx hb hr hlk hM hS ⟨rfl, _, B_57⟩ dX2_putValue_210 (by (try dsimp only); omega) (by (try dsimp only); omega)
  · skip
    have h3 : 300 ≤ ss.1.length := Nat.le_of_not_lt (fun h9 => c_5 ((nI_ltI (a := ss.1.length) (b := 300) (by omega) (by omega)).2 h9))
    rw [if_pos h3]
    exact mm_retv hx hb hr hlk hM hS ⟨rfl, _, BF.rf hT9⟩ dX2_putValue_10 (by (try dsimp only); omega) (by (try dsimp only); omega)
set_option maxHeartbeats 4000000 in
set_option maxRecDepth 100000 in
theorem c_X2_putValue_r (l : Launch) (Z : mm_G) {M : mm_M} {ss : List Nat × Nat} {va b ar : Nat} (hl9 : ss.1.length ≤ 300) (hc9 : ss.2 ≤ 1500) (hT9 : TB Z M b ar ss.2 ss.1) (hx9 : tx_T Z M ar) {T : List pt_R} {x0 r0 : ev} (hv9 : mr Z M T (.add x0 r0) 0 (fun _ => none) (some va)) (ihN : ∀ v : ev, SizeOf.sizeOf v < SizeOf.sizeOf (Lean.Grind.CommRing.Expr.add x0 r0) → putC l Z T v) : mm_C l Z yX2_putValue (ws_ yX2_putValue cX2_putValue 4 none) { frames := 310 - ss.1.length + 10, cells := ((mp (.add x0 r0) false 0 true ss).2 - ss.2) + 4 * ((mp (.add x0 r0) false 0 true ss).1.length - ss.1.length), slots := (2 * (mp (.add x0 r0) false 0 true ss).2 - 2 * ss.2) + 40 * ((mp (.add x0 r0) false 0 true ss).1.length - ss.1.length), locals := 60 * (310 - ss.1.length) + 700 } [.ref va, .ref b] M ((fun v9 M' => v9 = none ∧ ∃ ar', BF Z M M' b ar ar' (mp (.add x0 r0) false 0 true ss))) mm_nx := by
  refine mm_ofW (cc := cX2_putValue) (maxL := 4) (ret := none) (by decide) rfl (Nat.le_of_ble_eq_true rfl) ?_
  intro p e s m below meth c A ls hx hb hr hlk hml hown hmn hts htab hE hST hA hM hS hl
  replace hl : lv_has ls 4 [(0, .ref va), (1, .ref b)] := hl
  obtain ⟨a8, qa, ff, e8, hva, hqa, hra⟩ := mr_rec.1 hv9
  cases e8
  simp only [mp_rec, pz_1]
  have hb_1 := hT9.1
  refine lv_aload_n hx hb dX2_putValue_0 rfl (lv_at hl 1 rfl) ?_
  refine mm_callV (As := []) (rest := []) ⟨hx, hb, hml, hown, hts⟩ hE hST hA (c_J19_length l Z (M := M) (h0 := b) (f0 := (some ar)) (f1 := 0) (f2 := false) (f3 := (nI ss.1.length)) hb_1) (cwV 0 hts (lw_V q2742 q1483 q2860 q93 q1484) rfl rfl rfl (by decide +kernel) ⟨(by (try dsimp only); omega), (by (try dsimp only); omega)⟩) hM hS mm_cJ19 hb_1 rfl hl.1 (Nat.le_of_ble_eq_true rfl) dX2_putValue_1 rfl ⟨(by (try dsimp only); omega), (by (try dsimp only); omega)⟩ (fun _ _ _ _ _ _ h9 => h9.elim) (fun v_2 M_3 H locs hp_4 hM hS => ?_)
  obtain ⟨rfl, eM_3⟩ := hp_4
  rw [eM_3] at hM
  refine lv_sipush (v := 300) hx hb dX2_putValue_4 (by decide) ?_
  refine lv_icmp_lt (tgt := 11) hx hb dX2_putValue_7 (by decide) (fun c_5 => ?_) (fun c_5 => ?_)
  · skip
    have h3 : ss.1.length < 300 := (nI_ltI (a := ss.1.length) (b := 300) (by omega) (by omega)).1 c_5
    have h4 : ¬ 300 ≤ ss.1.length := by omega
    simp only [if_neg h4]
    obtain ⟨baw_6, bbw_6, bcw_6, bdw_6⟩ := ps1_b (s := ss) (k := 123)
    have bew_6 := (ps1_pl (s := ss) (k := 123) (by omega)).2
    have bfw_6 := bcw_6 (by omega)
    have hpm := (mp_mt (.add x0 r0) true 0 true (ps1 ss 123) (by omega)).2
    obtain ⟨G, hG0⟩ : ∃ G, mp (.add x0 r0) true 0 true (ps1 ss 123) = G := ⟨_, rfl⟩
    rw [hG0] at hpm
    simp only [hG0]
    obtain ⟨hp1, hp2, hp3, hp4⟩ := hpm
    have hp5 := hp4 (by omega)
    obtain ⟨baw_7, bbw_7, bcw_7, bdw_7⟩ := ps1_b (s := G) (k := 125)
    have bew_7 := (ps1_pl (s := G) (k := 125) (by omega)).2
    have bfw_7 := bcw_7 (by omega)
    refine lv_aload_n hx hb dX2_putValue_11 rfl (lv_at hl 0 rfl) ?_
    refine va_get (D := Z.1) (ci := 32) (v := .int 3) (C := RX38) (T := TX38) (N := 5) hx hb hts in_X38 hown hE.1 (hM.at hva) 0 rfl mm_cX38 0 (by decide) (hts _ q2782) (fun _ h9 => h9) rfl dX2_putValue_12 ?_
    refine lv_iconst (v := 1) hx hb dX2_putValue_15 (by decide) ?_
    refine lv_icmp_ne (tgt := 70) hx hb dX2_putValue_16 (by decide) (fun _ => ?_) (fun h9 => absurd h9 (by decide))
    refine lv_aload_n hx hb dX2_putValue_70 rfl (lv_at hl 0 rfl) ?_
    refine va_get (D := Z.1) (ci := 32) (v := .int 3) (C := RX38) (T := TX38) (N := 5) hx hb hts in_X38 hown hE.1 (hM.at hva) 0 rfl mm_cX38 0 (by decide) (hts _ q2782) (fun _ h9 => h9) rfl dX2_putValue_71 ?_
    refine lv_iconst (v := 2) hx hb dX2_putValue_74 (by decide) ?_
    refine lv_icmp_ne (tgt := 87) hx hb dX2_putValue_75 (by decide) (fun _ => ?_) (fun h9 => absurd h9 (by decide))
    refine lv_aload_n hx hb dX2_putValue_87 rfl (lv_at hl 0 rfl) ?_
    refine va_get (D := Z.1) (ci := 32) (v := .int 3) (C := RX38) (T := TX38) (N := 5) hx hb hts in_X38 hown hE.1 (hM.at hva) 0 rfl mm_cX38 0 (by decide) (hts _ q2782) (fun _ h9 => h9) rfl dX2_putValue_88 ?_
    refine lv_iconst (v := 4) hx hb dX2_putValue_91 (by decide) ?_
    refine lv_icmp_ne (tgt := 136) hx hb dX2_putValue_92 (by decide) (fun _ => ?_) (fun h9 => absurd h9 (by decide))
    refine lv_aload_n hx hb dX2_putValue_136 rfl (lv_at hl 1 rfl) ?_
    refine lv_bipush (v := 123) hx hb dX2_putValue_137 (by decide) ?_
    rw [show (123 : Int32) = nI 123 from by decide]
    refine mm_callS (As := [.ref b, .int (nI 123)]) (rest := []) ⟨hx, hb, hml, hown, hts⟩ hE hST hA (c_X2_put l Z (ss := ss) (k := 123) (by decide) (by omega) (by omega) hT9) (va_cwS 2 hts (lw_S q2743 q2744 q54 q2745) rfl rfl rfl (by decide +kernel) ⟨(by (try dsimp only); omega), (by (try dsimp only); omega)⟩) hM hS rfl hl.1 (Nat.le_of_ble_eq_true rfl) dX2_putValue_139 rfl ⟨(by (try dsimp only); omega), (by (try dsimp only); omega)⟩ (fun _ _ _ _ _ _ h9 => h9.elim) (fun v_8 M_9 H locs hp_10 hM hS => ?_)
    obtain ⟨rfl, ar_11, B_12⟩ := hp_10
    have hT_13 := B_12.1
    have hx_14 := B_12.tx hT9 hx9
    have B_15 := (BF.rf hT9).trans B_12
    have hc_16 := (B_12.Kt hT9).1 _ _ _ hva (by decide)
    have hc_17 := (B_12.Kt hT9).2 _ _ _ _ hqa
    have hb_18 := hT_13.1
    refine lv_iconst (v := 0) hx hb dX2_putValue_142 (by decide) ?_
    refine lv_istore_n hx hb dX2_putValue_143 rfl hl (by decide) rfl (fun ls hl => ?_)
    replace hl : lv_has ls 4 [(2, .int 0), (0, .ref va), (1, .ref b)] := hl
    refine lv_iconst (v := 0) hx hb dX2_putValue_144 (by decide) ?_
    refine lv_istore_n hx hb dX2_putValue_145 rfl hl (by decide) rfl (fun ls hl => ?_)
    replace hl : lv_has ls 4 [(3, .int 0), (2, .int 0), (0, .ref va), (1, .ref b)] := hl
    refine mm_loopW (fun k M' ls cells slots => ∃ (i : Nat) (f : Bool) (r : ev) (s' : List Nat × Nat) (ar' : Nat), k = 10 - i ∧ i ≤ 10 ∧ lv_has ls 4 [(3, .int (nI i)), (2, .int (mm_b (!f))), (0, .ref va), (1, .ref b)] ∧ BF Z M M' b ar ar' s' ∧ tx_T Z M' ar' ∧ mr Z M T r (i + 2) ff none ∧ mp r true i f s' = G ∧ ss.1.length + 1 ≤ s'.1.length ∧ s'.1.length ≤ 300 ∧ ss.2 ≤ s'.2 ∧ s'.2 ≤ 1500 ∧ SizeOf.sizeOf r ≤ SizeOf.sizeOf (Lean.Grind.CommRing.Expr.add x0 r0) ∧ cells ≤ (s'.2 - ss.2) + 4 * (s'.1.length - ss.1.length) ∧ slots ≤ (2 * s'.2 - 2 * ss.2) + 40 * (s'.1.length - ss.1.length)) (fun k M3 ls H locs cells slots ih hI hM hS => ?_) ⟨0, true, _, _, _, rfl, by omega, lv_sub hl [0, 1, 2, 3] rfl, B_15, hx_14, hra, hG0, by omega, by omega, by omega, by omega, Nat.le_refl _, by (try dsimp only); omega, by (try dsimp only); omega⟩ hM hS
    obtain ⟨i, f, r, s', ar', rfl, hi10, hl, hB, htx, hr3, hG, hn1, hn3, hn2, hn4, hz3, hc3, hs3⟩ := hI
    have hTB := hB.1
    have hva3 := (hB.Kt hT9).1 _ _ _ hva (by decide)
    have hqa3 := (hB.Kt hT9).2 _ _ _ _ hqa
    have hsG : pg s' G := hG ▸ (mp_mt r true i f s' hn3).2
    obtain ⟨hg1, hg2, hg3, hg4⟩ := hsG
    have hb_19 := hTB.1
    refine lv_iload_n hx hb dX2_putValue_146 rfl (lv_at hl 0 rfl) ?_
    refine lv_bipush (v := 10) hx hb dX2_putValue_147 (by decide) ?_
    refine lv_icmp_ge (tgt := 204) hx hb dX2_putValue_149 (by decide) (fun c_20 => ?_) (fun c_20 => ?_)
    · skip
      obtain rfl : i = 10 := by have := (nI_leI (a := 10) (b := i) (by omega) (by omega)).1 c_20; omega
      have hs9 : s' = G := by
        rw [← hG]
        cases r with
        | add x r' => exact absurd (mr_key (.add x r') 10 hr3).2.1 (by simp)
        | _ => simp only [mp]
      obtain rfl : s' = G := hs9
      refine lv_aload_n hx hb dX2_putValue_204 rfl (lv_at hl 3 rfl) ?_
      refine lv_bipush (v := 125) hx hb dX2_putValue_205 (by decide) ?_
      rw [show (125 : Int32) = nI 125 from by decide]
      refine mm_callS (As := [.ref b, .int (nI 125)]) (rest := []) ⟨hx, hb, hml, hown, hts⟩ hE hST hA (c_X2_put l Z (ss := s') (k := 125) (by decide) (by omega) (by omega) hTB) (va_cwS 2 hts (lw_S q2743 q2744 q54 q2745) rfl rfl rfl (by decide +kernel) ⟨(by (try dsimp only); omega), (by (try dsimp only); omega)⟩) hM hS rfl hl.1 (Nat.le_of_ble_eq_true rfl) dX2_putValue_207 rfl ⟨(by (try dsimp only); omega), (by (try dsimp only); omega)⟩ (fun _ _ _ _ _ _ h9 => h9.elim) (fun v_21 M_22 H locs hp_23 hM hS => ?_)
      obtain ⟨rfl, ar_24, B_25⟩ := hp_23
      have hT_26 := B_25.1
      have hx_27 := B_25.tx hTB htx
      have B_28 := hB.trans B_25
      have hc_29 := (B_25.Kt hTB).1 _ _ _ hva3 (by decide)
      have hc_30 := (B_25.Kt hTB).2 _ _ _ _ hqa3
      have hb_31 := hT_26.1
      exact mm_retv hx hb hr hlk hM hS ⟨rfl, _, B_28⟩ dX2_putValue_210 (by (try dsimp only); omega) (by (try dsimp only); omega)
    · skip
      have hi : i < 10 := (nI_ltI (b := 10) (by omega) (by omega)).1 (Int32.not_le.1 c_20)
      obtain ⟨x, r', rfl⟩ : ∃ x r', r = .add x r' := by
        cases r with
        | add x r' => exact ⟨x, r', rfl⟩
        | var k9 => simp only [mr] at hr3; omega
        | _ => simp [mr] at hr3
      obtain ⟨hx9, hr4⟩ := mr_add.1 hr3
      simp only [mp] at hG
      have hz4 : SizeOf.sizeOf x < SizeOf.sizeOf (Lean.Grind.CommRing.Expr.add x0 r0) ∧ SizeOf.sizeOf r' ≤ SizeOf.sizeOf (Lean.Grind.CommRing.Expr.add x0 r0) := by simp at hz3 ⊢; omega
      refine lv_aload_n hx hb dX2_putValue_152 rfl (lv_at hl 2 rfl) ?_
      refine va_get (D := Z.1) (ci := 32) (v := .ref qa) (C := RX38) (T := TX38) (N := 5) hx hb hts in_X38 hown hE.1 (hM.at hva3) 0 rfl mm_cX38 2 (by decide) (hts _ q2784) (fun _ h9 => h9) rfl dX2_putValue_153 ?_
      refine lv_iload_n hx hb dX2_putValue_156 rfl (lv_at hl 0 rfl) ?_
      refine mm_aald (k := i) hx hb hE hM 9 hqa3 rfl rfl hi (by decide) dX2_putValue_157 ?_
      rcases hx9 with ⟨hxa, hfx⟩ | ⟨hxa, hmx⟩
      · skip
        rw [hfx]
        rw [if_pos hxa] at hG
        refine lv_ifnullN (tgt := 198) hx hb dX2_putValue_158 (by decide) ?_
        obtain ⟨x_21, ex_21⟩ : ∃ z : Int32, z = (nI i) + 1 := ⟨_, rfl⟩
        refine lv_iinc (v := x_21) (lv' := [(3, .int x_21), (2, .int (mm_b (!f))), (0, .ref va), (1, .ref b)]) hx hb dX2_putValue_198 hl (k := 0) rfl (by rw [ex_21]; rfl) (by decide) rfl (fun ls hl => ?_)
        rw [show x_21 = nI (i + 1) from by rw [ex_21]; exact nI_1 i] at hl
        refine lv_goto (tgt := 146) hx hb dX2_putValue_201 (by decide) ?_
        refine ih (10 - (i + 1)) (by omega) _ _ _ _ _ _ ⟨i + 1, f, r', s', ar', rfl, hi, lv_sub hl [0, 1, 2, 3] rfl, hB, htx, hr4, hG, by omega, by omega, by omega, by omega, hz4.2, by (try dsimp only); omega, by (try dsimp only); omega⟩ hM hS
      · skip
        obtain ⟨xa, hfx, -⟩ := hmx.isW
        rw [hfx]
        rw [hfx] at hmx
        refine lv_ifnull hx hb dX2_putValue_158 ?_
        rw [if_neg (by rw [hxa]; decide)] at hG
        cases f
        · skip
          replace hG : mp r' true (i + 1) false (mp x false 0 true (ps1 (ps1 (ps1 s' 44) (48 + i)) 58)) = G := hG
          obtain ⟨baw_21, bbw_21, bcw_21, bdw_21⟩ := ps1_b (s := s') (k := 44)
          have bew_21 := (ps1_pl (s := s') (k := 44) (by omega)).2
          have bfw_21 := bcw_21 (by omega)
          obtain ⟨baw_22, bbw_22, bcw_22, bdw_22⟩ := ps1_b (s := (ps1 s' 44)) (k := 48 + i)
          have bew_22 := (ps1_pl (s := (ps1 s' 44)) (k := 48 + i) (by omega)).2
          have bfw_22 := bcw_22 (by omega)
          obtain ⟨baw_23, bbw_23, bcw_23, bdw_23⟩ := ps1_b (s := (ps1 (ps1 s' 44) (48 + i))) (k := 58)
          have bew_23 := (ps1_pl (s := (ps1 (ps1 s' 44) (48 + i))) (k := 58) (by omega)).2
          have bfw_23 := bcw_23 (by omega)
          obtain ⟨hq1, hq2, hq3, hq4⟩ := (mp_mt x false 0 true (ps1 (ps1 (ps1 s' 44) (48 + i)) 58) (by omega)).2
          have hq5 := hq4 (by omega)
          have hq6 : pg (mp x false 0 true (ps1 (ps1 (ps1 s' 44) (48 + i)) 58)) G := hG ▸ (mp_mt r' true (i + 1) false (mp x false 0 true (ps1 (ps1 (ps1 s' 44) (48 + i)) 58)) (by omega)).2
          obtain ⟨hq7, hq8, hq9, -⟩ := hq6
          replace hl : lv_has ls 4 [(3, .int (nI i)), (2, .int (mm_b true)), (0, .ref va), (1, .ref b)] := hl
          refine lv_iload_n hx hb dX2_putValue_161 rfl (lv_at hl 1 rfl) ?_
          refine lv_if_eq (tgt := 171) hx hb dX2_putValue_162 (by decide) (fun h9 => absurd h9 (by decide)) (fun _ => ?_)
          refine lv_aload_n hx hb dX2_putValue_165 rfl (lv_at hl 3 rfl) ?_
          refine lv_bipush (v := 44) hx hb dX2_putValue_166 (by decide) ?_
          rw [show (44 : Int32) = nI 44 from by decide]
          refine mm_callS (As := [.ref b, .int (nI 44)]) (rest := []) ⟨hx, hb, hml, hown, hts⟩ hE hST hA (c_X2_put l Z (ss := s') (k := 44) (by decide) (by omega) (by omega) hTB) (va_cwS 2 hts (lw_S q2743 q2744 q54 q2745) rfl rfl rfl (by decide +kernel) ⟨(by (try dsimp only); omega), (by (try dsimp only); omega)⟩) hM hS rfl hl.1 (Nat.le_of_ble_eq_true rfl) dX2_putValue_168 rfl ⟨(by (try dsimp only); omega), (by (try dsimp only); omega)⟩ (fun _ _ _ _ _ _ h9 => h9.elim) (fun v_24 M_25 H locs hp_26 hM hS => ?_)
          obtain ⟨rfl, ar_27, B_28⟩ := hp_26
          have hT_29 := B_28.1
          have hx_30 := B_28.tx hTB htx
          have B_31 := hB.trans B_28
          have hc_32 := (B_28.Kt hTB).1 _ _ _ hva3 (by decide)
          have hc_33 := (B_28.Kt hTB).2 _ _ _ _ hqa3
          have hb_34 := hT_29.1
          refine lv_iconst (v := 1) hx hb dX2_putValue_171 (by decide) ?_
          refine lv_istore_n hx hb dX2_putValue_172 rfl hl (by decide) rfl (fun ls hl => ?_)
          replace hl : lv_has ls 4 [(2, .int 1), (3, .int (nI i)), (0, .ref va), (1, .ref b)] := hl
          refine lv_aload_n hx hb dX2_putValue_173 rfl (lv_at hl 3 rfl) ?_
          refine lv_bipush (v := 48) hx hb dX2_putValue_174 (by decide) ?_
          refine lv_iload_n hx hb dX2_putValue_176 rfl (lv_at hl 1 rfl) ?_
          refine lv_iadd hx hb dX2_putValue_177 ?_
          refine lv_i2c (v := ((48 + (nI i)).toUInt32 % 65536).toInt32) hx hb dX2_putValue_178 rfl ?_
          rw [show (((48 + (nI i)).toUInt32 % 65536).toInt32 : Int32) = nI (48 + i) from lb_ch (by omega)]
          refine mm_callS (As := [.ref b, .int (nI (48 + i))]) (rest := []) ⟨hx, hb, hml, hown, hts⟩ hE hST hA (c_X2_put l Z (ss := (ps1 s' 44)) (k := 48 + i) (by omega) (by omega) (by omega) hT_29) (va_cwS 2 hts (lw_S q2743 q2744 q54 q2745) rfl rfl rfl (by decide +kernel) ⟨(by (try dsimp only); omega), (by (try dsimp only); omega)⟩) hM hS rfl hl.1 (Nat.le_of_ble_eq_true rfl) dX2_putValue_179 rfl ⟨(by (try dsimp only); omega), (by (try dsimp only); omega)⟩ (fun _ _ _ _ _ _ h9 => h9.elim) (fun v_35 M_36 H locs hp_37 hM hS => ?_)
          obtain ⟨rfl, ar_38, B_39⟩ := hp_37
          have hT_40 := B_39.1
          have hx_41 := B_39.tx hT_29 hx_30
          have B_42 := B_31.trans B_39
          have hc_43 := (B_39.Kt hT_29).1 _ _ _ hc_32 (by decide)
          have hc_44 := (B_39.Kt hT_29).2 _ _ _ _ hc_33
          have hb_45 := hT_40.1
          refine lv_aload_n hx hb dX2_putValue_182 rfl (lv_at hl 3 rfl) ?_
          refine lv_bipush (v := 58) hx hb dX2_putValue_183 (by decide) ?_
          rw [show (58 : Int32) = nI 58 from by decide]
          refine mm_callS (As := [.ref b, .int (nI 58)]) (rest := []) ⟨hx, hb, hml, hown, hts⟩ hE hST hA (c_X2_put l Z (ss := (ps1 (ps1 s' 44) (48 + i))) (k := 58) (by decide) (by omega) (by omega) hT_40) (va_cwS 2 hts (lw_S q2743 q2744 q54 q2745) rfl rfl rfl (by decide +kernel) ⟨(by (try dsimp only); omega), (by (try dsimp only); omega)⟩) hM hS rfl hl.1 (Nat.le_of_ble_eq_true rfl) dX2_putValue_185 rfl ⟨(by (try dsimp only); omega), (by (try dsimp only); omega)⟩ (fun _ _ _ _ _ _ h9 => h9.elim) (fun v_46 M_47 H locs hp_48 hM hS => ?_)
          obtain ⟨rfl, ar_49, B_50⟩ := hp_48
          have hT_51 := B_50.1
          have hx_52 := B_50.tx hT_40 hx_41
          have B_53 := B_42.trans B_50
          have hc_54 := (B_50.Kt hT_40).1 _ _ _ hc_43 (by decide)
          have hc_55 := (B_50.Kt hT_40).2 _ _ _ _ hc_44
          have hb_56 := hT_51.1
          refine lv_aload_n hx hb dX2_putValue_188 rfl (lv_at hl 2 rfl) ?_
          refine va_get (D := Z.1) (ci := 32) (v := .ref qa) (C := RX38) (T := TX38) (N := 5) hx hb hts in_X38 hown hE.1 (hM.at hc_54) 0 rfl mm_cX38 2 (by decide) (hts _ q2784) (fun _ h9 => h9) rfl dX2_putValue_189 ?_
          refine lv_iload_n hx hb dX2_putValue_192 rfl (lv_at hl 1 rfl) ?_
          refine mm_aald (k := i) hx hb hE hM 9 hc_55 rfl rfl hi (by decide) dX2_putValue_193 ?_
          rw [hfx]
          refine lv_aload_n hx hb dX2_putValue_194 rfl (lv_at hl 3 rfl) ?_
          have hih := (ihN x hz4.1) (ps1 (ps1 (ps1 s' 44) (48 + i)) 58) M_47 xa b ar_49 (by omega) (by omega) hT_51 hx_52 (mr.monoB (B_50.Kt hT_40) _ _ _ _ (mr.monoB (B_39.Kt hT_29) _ _ _ _ (mr.monoB (B_28.Kt hTB) _ _ _ _ (mr.monoB (hB.Kt hT9) _ _ _ _ hmx))))
          refine mm_callS (As := [.ref xa, .ref b]) (rest := []) ⟨hx, hb, hml, hown, hts⟩ hE hST hA hih (va_cwS 2 hts (lw_S q2829 q2830 q54 q2831) rfl rfl rfl (by decide +kernel) ⟨(by (try dsimp only); omega), (by (try dsimp only); omega)⟩) hM hS rfl hl.1 (Nat.le_of_ble_eq_true rfl) dX2_putValue_195 rfl ⟨(by (try dsimp only); omega), (by (try dsimp only); omega)⟩ (fun _ _ _ _ _ _ h9 => h9.elim) (fun v_57 M_58 H locs hp_59 hM hS => ?_)
          obtain ⟨rfl, ar_60, B_61⟩ := hp_59
          have hT_62 := B_61.1
          have hx_63 := B_61.tx hT_51 hx_52
          have B_64 := B_53.trans B_61
          have hc_65 := (B_61.Kt hT_51).1 _ _ _ hc_54 (by decide)
          have hc_66 := (B_61.Kt hT_51).2 _ _ _ _ hc_55
          have hb_67 := hT_62.1
          obtain ⟨x_68, ex_68⟩ : ∃ z : Int32, z = (nI i) + 1 := ⟨_, rfl⟩
          refine lv_iinc (v := x_68) (lv' := [(3, .int x_68), (2, .int 1), (0, .ref va), (1, .ref b)]) hx hb dX2_putValue_198 hl (k := 1) rfl (by rw [ex_68]; rfl) (by decide) rfl (fun ls hl => ?_)
          rw [show x_68 = nI (i + 1) from by rw [ex_68]; exact nI_1 i] at hl
          refine lv_goto (tgt := 146) hx hb dX2_putValue_201 (by decide) ?_
          refine ih (10 - (i + 1)) (by omega) _ _ _ _ _ _ ⟨i + 1, false, r', (mp x false 0 true (ps1 (ps1 (ps1 s' 44) (48 + i)) 58)), ar_60, rfl, hi, lv_sub hl [0, 1, 2, 3] rfl, B_64, hx_63, hr4, hG, by omega, by omega, by omega, by omega, hz4.2, by (try dsimp only); omega, by (try dsimp only); omega⟩ hM hS
        · skip
          replace hG : mp r' true (i + 1) false (mp x false 0 true (ps1 (ps1 s' (48 + i)) 58)) = G := hG
          obtain ⟨baw_21, bbw_21, bcw_21, bdw_21⟩ := ps1_b (s := s') (k := 48 + i)
          have bew_21 := (ps1_pl (s := s') (k := 48 + i) (by omega)).2
          have bfw_21 := bcw_21 (by omega)
          obtain ⟨baw_22, bbw_22, bcw_22, bdw_22⟩ := ps1_b (s := (ps1 s' (48 + i))) (k := 58)
          have bew_22 := (ps1_pl (s := (ps1 s' (48 + i))) (k := 58) (by omega)).2
          have bfw_22 := bcw_22 (by omega)
          obtain ⟨hq1, hq2, hq3, hq4⟩ := (mp_mt x false 0 true (ps1 (ps1 s' (48 + i)) 58) (by omega)).2
          have hq5 := hq4 (by omega)
          have hq6 : pg (mp x false 0 true (ps1 (ps1 s' (48 + i)) 58)) G := hG ▸ (mp_mt r' true (i + 1) false (mp x false 0 true (ps1 (ps1 s' (48 + i)) 58)) (by omega)).2
          obtain ⟨hq7, hq8, hq9, -⟩ := hq6
          replace hl : lv_has ls 4 [(3, .int (nI i)), (2, .int (mm_b false)), (0, .ref va), (1, .ref b)] := hl
          refine lv_iload_n hx hb dX2_putValue_161 rfl (lv_at hl 1 rfl) ?_
          refine lv_if_eq (tgt := 171) hx hb dX2_putValue_162 (by decide) (fun _ => ?_) (fun h9 => absurd (by decide) h9)
          refine lv_iconst (v := 1) hx hb dX2_putValue_171 (by decide) ?_
          refine lv_istore_n hx hb dX2_putValue_172 rfl hl (by decide) rfl (fun ls hl => ?_)
          replace hl : lv_has ls 4 [(2, .int 1), (3, .int (nI i)), (0, .ref va), (1, .ref b)] := hl
          refine lv_aload_n hx hb dX2_putValue_173 rfl (lv_at hl 3 rfl) ?_
          refine lv_bipush (v := 48) hx hb dX2_putValue_174 (by decide) ?_
          refine lv_iload_n hx hb dX2_putValue_176 rfl (lv_at hl 1 rfl) ?_
          refine lv_iadd hx hb dX2_putValue_177 ?_
          refine lv_i2c (v := ((48 + (nI i)).toUInt32 % 65536).toInt32) hx hb dX2_putValue_178 rfl ?_
          rw [show (((48 + (nI i)).toUInt32 % 65536).toInt32 : Int32) = nI (48 + i) from lb_ch (by omega)]
          refine mm_callS (As := [.ref b, .int (nI (48 + i))]) (rest := []) ⟨hx, hb, hml, hown, hts⟩ hE hST hA (c_X2_put l Z (ss := s') (k := 48 + i) (by omega) (by omega) (by omega) hTB) (va_cwS 2 hts (lw_S q2743 q2744 q54 q2745) rfl rfl rfl (by decide +kernel) ⟨(by (try dsimp only); omega), (by (try dsimp only); omega)⟩) hM hS rfl hl.1 (Nat.le_of_ble_eq_true rfl) dX2_putValue_179 rfl ⟨(by (try dsimp only); omega), (by (try dsimp only); omega)⟩ (fun _ _ _ _ _ _ h9 => h9.elim) (fun v_23 M_24 H locs hp_25 hM hS => ?_)
          obtain ⟨rfl, ar_26, B_27⟩ := hp_25
          have hT_28 := B_27.1
          have hx_29 := B_27.tx hTB htx
          have B_30 := hB.trans B_27
          have hc_31 := (B_27.Kt hTB).1 _ _ _ hva3 (by decide)
          have hc_32 := (B_27.Kt hTB).2 _ _ _ _ hqa3
          have hb_33 := hT_28.1
          refine lv_aload_n hx hb dX2_putValue_182 rfl (lv_at hl 3 rfl) ?_
          refine lv_bipush (v := 58) hx hb dX2_putValue_183 (by decide) ?_
          rw [show (58 : Int32) = nI 58 from by decide]
          refine mm_callS (As := [.ref b, .int (nI 58)]) (rest := []) ⟨hx, hb, hml, hown, hts⟩ hE hST hA (c_X2_put l Z (ss := (ps1 s' (48 + i))) (k := 58) (by decide) (by omega) (by omega) hT_28) (va_cwS 2 hts (lw_S q2743 q2744 q54 q2745) rfl rfl rfl (by decide +kernel) ⟨(by (try dsimp only); omega), (by (try dsimp only); omega)⟩) hM hS rfl hl.1 (Nat.le_of_ble_eq_true rfl) dX2_putValue_185 rfl ⟨(by (try dsimp only); omega), (by (try dsimp only); omega)⟩ (fun _ _ _ _ _ _ h9 => h9.elim) (fun v_34 M_35 H locs hp_36 hM hS => ?_)
          obtain ⟨rfl, ar_37, B_38⟩ := hp_36
          have hT_39 := B_38.1
          have hx_40 := B_38.tx hT_28 hx_29
          have B_41 := B_30.trans B_38
          have hc_42 := (B_38.Kt hT_28).1 _ _ _ hc_31 (by decide)
          have hc_43 := (B_38.Kt hT_28).2 _ _ _ _ hc_32
          have hb_44 := hT_39.1
          refine lv_aload_n hx hb dX2_putValue_188 rfl (lv_at hl 2 rfl) ?_
          refine va_get (D := Z.1) (ci := 32) (v := .ref qa) (C := RX38) (T := TX38) (N := 5) hx hb hts in_X38 hown hE.1 (hM.at hc_42) 0 rfl mm_cX38 2 (by decide) (hts _ q2784) (fun _ h9 => h9) rfl dX2_putValue_189 ?_
          refine lv_iload_n hx hb dX2_putValue_192 rfl (lv_at hl 1 rfl) ?_
          refine mm_aald (k := i) hx hb hE hM 9 hc_43 rfl rfl hi (by decide) dX2_putValue_193 ?_
          rw [hfx]
          refine lv_aload_n hx hb dX2_putValue_194 rfl (lv_at hl 3 rfl) ?_
          have hih := (ihN x hz4.1) (ps1 (ps1 s' (48 + i)) 58) M_35 xa b ar_37 (by omega) (by omega) hT_39 hx_40 (mr.monoB (B_38.Kt hT_28) _ _ _ _ (mr.monoB (B_27.Kt hTB) _ _ _ _ (mr.monoB (hB.Kt hT9) _ _ _ _ hmx)))
          refine mm_callS (As := [.ref xa, .ref b]) (rest := []) ⟨hx, hb, hml, hown, hts⟩ hE hST hA hih (va_cwS 2 hts (lw_S q2829 q2830 q54 q2831) rfl rfl rfl (by decide +kernel) ⟨(by (try dsimp only); omega), (by (try dsimp only); omega)⟩) hM hS rfl hl.1 (Nat.le_of_ble_eq_true rfl) dX2_putValue_195 rfl ⟨(by (try dsimp only); omega), (by (try dsimp only); omega)⟩ (fun _ _ _ _ _ _ h9 => h9.elim) (fun v_45 M_46 H locs hp_47 hM hS => ?_)
          obtain ⟨rfl, ar_48, B_49⟩ := hp_47
          have hT_50 := B_49.1
          have hx_51 := B_49.tx hT_39 hx_40
          have B_52 := B_41.trans B_49
          have hc_53 := (B_49.Kt hT_39).1 _ _ _ hc_42 (by decide)
          have hc_54 := (B_49.Kt hT_39).2 _ _ _ _ hc_43
          have hb_55 := hT_50.1
          obtain ⟨x_56, ex_56⟩ : ∃ z : Int32, z = (nI i) + 1 := ⟨_, rfl⟩
          refine lv_iinc (v := x_56) (lv' := [(3, .int x_56), (2, .int 1), (0, .ref va), (1, .ref b)]) hx hb dX2_putValue_198 hl (k := 1) rfl (by rw [ex_56]; rfl) (by decide) rfl (fun ls hl => ?_)
          rw [show x_56 = nI (i + 1) from by rw [ex_56]; exact nI_1 i] at hl
          refine lv_goto (tgt := 146) hx hb dX2_putValue_201 (by decide) ?_
          refine ih (10 - (i + 1)) (by omega) _ _ _ _ _ _ ⟨i + 1, false, r', (mp x false 0 true (ps1 (ps1 s' (48 + i)) 58)), ar_48, rfl, hi, lv_sub hl [0, 1, 2, 3] rfl, B_52, hx_51, hr4, hG, by omega, by omega, by omega, by omega, hz4.2, by (try dsimp only); omega, by (try dsimp only); omega⟩ hM hS
  · skip
    have h3 : 300 ≤ ss.1.length := Nat.le_of_not_lt (fun h9 => c_5 ((nI_ltI (a := ss.1.length) (b := 300) (by omega) (by omega)).2 h9))
    rw [if_pos h3]
    exact mm_retv hx hb hr hlk hM hS ⟨rfl, _, BF.rf hT9⟩ dX2_putValue_10 (by (try dsimp only); omega) (by (try dsimp only); omega)
