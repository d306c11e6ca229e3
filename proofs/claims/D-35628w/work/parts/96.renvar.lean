/-! ===== renewing: variables ===== -/
set_option maxRecDepth 100000
theorem RL.cg {Z : mm_G} {B M : mm_M} {q ar cp : Nat → Nat} {X X' : Nat → List (Option Nat)} (h : RL Z B M q ar cp X) (e : ∀ i, i < 4 → X i = X' i) : RL Z B M q ar cp X' :=
  ⟨fun i hi => by rw [← e i hi]; exact h.1 i hi, h.2⟩
theorem mm_Ext.NS {B M M' : mm_M} (h : mm_Ext M M') : uNS B M M' := fun _ _ _ _ hm _ => h.at hm
theorem RN.le {Z : mm_G} {B M : mm_M} {L : List Nat} {vr : Nat → Nat} {S : ts} {gl : List Nat} {rk : Nat} {q ar cp : Nat → Nat} {lv : Int32} {co cr : List (Nat × Nat)} {nw : List Nat} (h : RN Z B M L vr S gl rk q ar cp lv co cr nw) : co.length + cr.length ≤ gl.length := by
  obtain ⟨-, -, -, ⟨h1, h2⟩, ⟨h3, h4, -⟩, -⟩ := h
  have h5 : (co.map Prod.fst ++ cr.map Prod.fst).Nodup := List.nodup_append.2 ⟨h3, h4, fun a ha b hb e => by
    subst e
    obtain ⟨p, hp, rfl⟩ := List.mem_map.1 ha
    obtain ⟨p2, hp2, e⟩ := List.mem_map.1 hb
    obtain ⟨-, -, ⟨bd, l1, l2, k1⟩, -⟩ := h1 p hp
    obtain ⟨-, -, ⟨bd', l1', l2', l3', k2⟩, -⟩ := h2 p2 hp2
    rw [e, k1] at k2
    simp at k2⟩
  have h6 := nodup_sub h5 (L := gl) (fun x hx => by
    rcases List.mem_append.1 hx with hx | hx
    · obtain ⟨p, hp, rfl⟩ := List.mem_map.1 hx; exact (h1 p hp).1
    · obtain ⟨p, hp, rfl⟩ := List.mem_map.1 hx; exact (h2 p hp).1)
  simpa using h6
theorem RCA.mono {Z : mm_G} {B M M' : mm_M} {L : List Nat} {vr : Nat → Nat} {S : ts} {gl nw nw' : List Nat} {cs cs' : List (Nat × Nat)} {b : Nat} {rn : Option Nat} (h : RCA Z B M L vr S gl nw cs b rn) (hT : uT M M') (hn : ∀ x ∈ nw, x ∈ nw') (hc : ∀ p ∈ cs, p ∈ cs') : RCA Z B M' L vr S gl nw' cs' b rn := by
  obtain ⟨a', t', h1, h2, h3⟩ := h
  exact ⟨a', t', h1, h2.mono hT hn hc, fun t ht => ⟨(h3 t ht).1, fun g hg ho => by obtain ⟨x, hx⟩ := (h3 t ht).2 g hg ho; exact ⟨x, hc _ hx⟩⟩⟩
theorem RN.obj {Z : mm_G} {B M : mm_M} {L : List Nat} {vr : Nat → Nat} {S : ts} {gl : List Nat} {rk : Nat} {q ar cp : Nat → Nat} {lv : Int32} {co cr : List (Nat × Nat)} {nw : List Nat} (h : RN Z B M L vr S gl rk q ar cp lv co cr nw) {x : Nat} (hx : x ∈ nw) : ∃ ci fs, M x = some (.inr (ci, fs)) ∧ ci ≠ 41 := by
  obtain ⟨-, -, -, ⟨h1, h2⟩, -, ⟨-, h3⟩, -⟩ := h
  rcases (h3 x hx).2 with ⟨p, hp, rfl⟩ | ⟨t', -, ⟨f, g, k⟩ | ⟨iv, w, k⟩⟩
  · rcases List.mem_append.1 hp with hp | hp
    · obtain ⟨-, -, -, k⟩ := h1 p hp; exact ⟨_, _, k, by decide⟩
    · obtain ⟨-, -, -, k⟩ := h2 p hp; exact ⟨_, _, k, by decide⟩
  · exact ⟨_, _, k, by decide⟩
  · exact ⟨_, _, k, by decide⟩

/-- a variable has a new one -/
theorem RN.snocO {Z : mm_G} {B M M' : mm_M} {L : List Nat} {vr : Nat → Nat} {S : ts} {gl : List Nat} {rk : Nat} {q ar cp ar' cp' : Nat → Nat} {lv : Int32} {co cr : List (Nat × Nat)} {nw : List Nat} (h : RN Z B M L vr S gl rk q ar cp lv co cr nw) {g a : Nat} (hg : g ∈ gl) (hB : ∃ bd lv lk, B (vr g) = some (co_E bd lv lk)) (hng : g ∉ co.map Prod.fst) (hex : mm_Ext B M') (hns : uNS B M M') (han : ∀ ci fs, M a ≠ some (.inr (ci, fs)) ∨ ci = 41) (haB : B a = none) (ha : M' a = some (co_E none lv (S.2.2.1 g)))
    (hRL : RL Z B M' q ar' cp' (RX vr (co ++ [(g, a)]) cr)) : RN Z B M' L vr S gl rk q ar' cp' lv (co ++ [(g, a)]) cr (a :: nw) := by
  have hobj := fun x (hx : x ∈ nw) => h.obj hx
  obtain ⟨⟨h1, h2, h3⟩, ⟨h4, h5⟩, h6, ⟨h7, h8⟩, ⟨h9, h10, h11⟩, ⟨h12, h13⟩, h14⟩ := h
  have hT : uT M M' := hns.T' h1 (uY.rf rk B) hex
  have hanw : a ∉ nw := fun hx => by
    obtain ⟨ci, fs, k, hc⟩ := hobj a hx
    rcases han ci fs with k2 | k2
    · exact k2 k
    · exact hc k2
  have hsub : ∀ p ∈ co ++ cr, p ∈ (co ++ [(g, a)]) ++ cr := fun p hp => by
    rcases List.mem_append.1 hp with hp | hp
    · exact List.mem_append_left _ (List.mem_append_left _ hp)
    · exact List.mem_append_right _ (hp)
  have hnw : ∀ x ∈ nw, x ∈ a :: nw := fun x hx => List.mem_cons_of_mem _ hx
  refine ⟨⟨hex, h2, h3⟩, ⟨h4, hns rk _ _ h4 h5 (by decide)⟩, hRL, ⟨fun p hp => ?_, fun p hp => ?_⟩, ⟨?_, ?_, ?_⟩, ⟨List.nodup_cons.2 ⟨hanw, h12⟩, fun x hx => ?_⟩, fun b hb => ⟨fun f g9 sm rn hk => ?_, fun iv w sm rn hk => ?_⟩⟩
  · rcases List.mem_append.1 hp with hp | hp
    · obtain ⟨k1, k2, k3, k4⟩ := h7 p hp; exact ⟨k1, hnw _ k2, k3, hns p.2 _ _ (h13 _ k2).1 k4 (by decide)⟩
    · rw [List.mem_singleton] at hp; subst hp; exact ⟨hg, List.mem_cons_self, hB, ha⟩
  · obtain ⟨k1, k2, k3, k4⟩ := h8 p hp; exact ⟨k1, hnw _ k2, k3, hns p.2 _ _ (h13 _ k2).1 k4 (by decide)⟩
  · rw [List.map_append]; exact List.nodup_append.2 ⟨h9, List.nodup_cons.2 ⟨List.not_mem_nil, List.nodup_nil⟩, fun x hx y hy e => by subst e; simp only [List.map_cons, List.map_nil, List.mem_singleton] at hy; subst hy; exact hng hx⟩
  · exact h10
  · have hpm : (((co ++ [(g, a)]) ++ cr).map Prod.snd).Perm (a :: (co ++ cr).map Prod.snd) := by
      simp only [List.map_append, List.map_cons, List.map_nil]
      rw [List.append_assoc]; exact List.perm_middle
    refine (hpm.nodup_iff).2 (List.nodup_cons.2 ⟨fun hm => hanw ?_, h11⟩)
    obtain ⟨p, hp, e⟩ := List.mem_map.1 hm
    rw [← e]
    rcases List.mem_append.1 hp with hp | hp
    · exact (h7 p hp).2.1
    · exact (h8 p hp).2.1
  · rcases List.mem_cons.1 hx with rfl | hx
    · exact ⟨haB, Or.inl ⟨(g, x), List.mem_append_left _ (List.mem_append_right _ List.mem_cons_self), rfl⟩⟩
    · obtain ⟨k1, k2⟩ := h13 x hx
      refine ⟨k1, ?_⟩
      rcases k2 with ⟨p, hp, e⟩ | ⟨t', k3, k4⟩
      · exact Or.inl ⟨p, hsub p hp, e⟩
      · refine Or.inr ⟨t', k3.mono hT hnw hsub, ?_⟩
        rcases k4 with ⟨f, g9, k4⟩ | ⟨iv, w, k4⟩
        · exact Or.inl ⟨f, g9, hns x _ _ k1 k4 (by decide)⟩
        · exact Or.inr ⟨iv, w, hns x _ _ k1 k4 (by decide)⟩
  · exact ((h14 b hb).1 f g9 sm rn hk).mono hT hnw hsub
  · exact ((h14 b hb).2 iv w sm rn hk).mono hT hnw hsub

/-- a variable has a new one -/
theorem RN.snocR {Z : mm_G} {B M M' : mm_M} {L : List Nat} {vr : Nat → Nat} {S : ts} {gl : List Nat} {rk : Nat} {q ar cp ar' cp' : Nat → Nat} {lv : Int32} {co cr : List (Nat × Nat)} {nw : List Nat} (h : RN Z B M L vr S gl rk q ar cp lv co cr nw) {g a : Nat} (hg : g ∈ gl) (hB : ∃ bd lv lk lc, B (vr g) = some (cr_E bd lv lk lc)) (hng : g ∉ cr.map Prod.fst) (hex : mm_Ext B M') (hns : uNS B M M') (han : ∀ ci fs, M a ≠ some (.inr (ci, fs)) ∨ ci = 41) (haB : B a = none) (ha : M' a = some (cr_E none lv (S.2.2.1 g) (S.2.2.2.1 g)))
    (hRL : RL Z B M' q ar' cp' (RX vr co (cr ++ [(g, a)]))) : RN Z B M' L vr S gl rk q ar' cp' lv co (cr ++ [(g, a)]) (a :: nw) := by
  have hobj := fun x (hx : x ∈ nw) => h.obj hx
  obtain ⟨⟨h1, h2, h3⟩, ⟨h4, h5⟩, h6, ⟨h7, h8⟩, ⟨h9, h10, h11⟩, ⟨h12, h13⟩, h14⟩ := h
  have hT : uT M M' := hns.T' h1 (uY.rf rk B) hex
  have hanw : a ∉ nw := fun hx => by
    obtain ⟨ci, fs, k, hc⟩ := hobj a hx
    rcases han ci fs with k2 | k2
    · exact k2 k
    · exact hc k2
  have hsub : ∀ p ∈ co ++ cr, p ∈ co ++ (cr ++ [(g, a)]) := fun p hp => by
    rcases List.mem_append.1 hp with hp | hp
    · exact List.mem_append_left _ (hp)
    · exact List.mem_append_right _ (List.mem_append_left _ hp)
  have hnw : ∀ x ∈ nw, x ∈ a :: nw := fun x hx => List.mem_cons_of_mem _ hx
  refine ⟨⟨hex, h2, h3⟩, ⟨h4, hns rk _ _ h4 h5 (by decide)⟩, hRL, ⟨fun p hp => ?_, fun p hp => ?_⟩, ⟨?_, ?_, ?_⟩, ⟨List.nodup_cons.2 ⟨hanw, h12⟩, fun x hx => ?_⟩, fun b hb => ⟨fun f g9 sm rn hk => ?_, fun iv w sm rn hk => ?_⟩⟩
  · obtain ⟨k1, k2, k3, k4⟩ := h7 p hp; exact ⟨k1, hnw _ k2, k3, hns p.2 _ _ (h13 _ k2).1 k4 (by decide)⟩
  · rcases List.mem_append.1 hp with hp | hp
    · obtain ⟨k1, k2, k3, k4⟩ := h8 p hp; exact ⟨k1, hnw _ k2, k3, hns p.2 _ _ (h13 _ k2).1 k4 (by decide)⟩
    · rw [List.mem_singleton] at hp; subst hp; exact ⟨hg, List.mem_cons_self, hB, ha⟩
  · exact h9
  · rw [List.map_append]; exact List.nodup_append.2 ⟨h10, List.nodup_cons.2 ⟨List.not_mem_nil, List.nodup_nil⟩, fun x hx y hy e => by subst e; simp only [List.map_cons, List.map_nil, List.mem_singleton] at hy; subst hy; exact hng hx⟩
  · have hpm : ((co ++ (cr ++ [(g, a)])).map Prod.snd).Perm (a :: (co ++ cr).map Prod.snd) := by
      simp only [List.map_append, List.map_cons, List.map_nil]
      rw [← List.append_assoc]; exact List.perm_append_comm
    refine (hpm.nodup_iff).2 (List.nodup_cons.2 ⟨fun hm => hanw ?_, h11⟩)
    obtain ⟨p, hp, e⟩ := List.mem_map.1 hm
    rw [← e]
    rcases List.mem_append.1 hp with hp | hp
    · exact (h7 p hp).2.1
    · exact (h8 p hp).2.1
  · rcases List.mem_cons.1 hx with rfl | hx
    · exact ⟨haB, Or.inl ⟨(g, x), List.mem_append_right _ (List.mem_append_right _ List.mem_cons_self), rfl⟩⟩
    · obtain ⟨k1, k2⟩ := h13 x hx
      refine ⟨k1, ?_⟩
      rcases k2 with ⟨p, hp, e⟩ | ⟨t', k3, k4⟩
      · exact Or.inl ⟨p, hsub p hp, e⟩
      · refine Or.inr ⟨t', k3.mono hT hnw hsub, ?_⟩
        rcases k4 with ⟨f, g9, k4⟩ | ⟨iv, w, k4⟩
        · exact Or.inl ⟨f, g9, hns x _ _ k1 k4 (by decide)⟩
        · exact Or.inr ⟨iv, w, hns x _ _ k1 k4 (by decide)⟩
  · exact ((h14 b hb).1 f g9 sm rn hk).mono hT hnw hsub
  · exact ((h14 b hb).2 iv w sm rn hk).mono hT hnw hsub

/-- renewing is done with this -/
def rnP (Z : mm_G) (L : List Nat) (vr : Nat → Nat) (S : ts) (gl : List Nat) (rk : Nat) (q : Nat → Nat) (lv : Int32) (B M : mm_M) (cp : Nat → Nat) (co cr : List (Nat × Nat)) (nw : List Nat) (c1 c2 sz : Nat) (K : Nat → mm_M → List (Nat × Nat) → List Nat → Prop) : Option Value → mm_M → Nat → Nat → Prop := fun v9 M' n9 k9 =>
  ∃ (a : Nat) (B' : mm_M) (ar' cp' : Nat → Nat) (co' cr' : List (Nat × Nat)) (nw' : List Nat), v9 = some (.ref a) ∧ RN Z B' M' L vr S gl rk q ar' cp' lv co' cr' nw' ∧ uY rk B B' ∧ uNS B M M' ∧ (∀ p ∈ co ++ cr, p ∈ co' ++ cr') ∧ (∀ x ∈ nw, x ∈ nw') ∧ co.length + cr.length ≤ co'.length + cr'.length ∧
  n9 + 11 * uNu B' L rk + 3 * (co.length + cr.length) ≤ 11 * uNu B L rk + 3 * (co'.length + cr'.length) + c1 ∧ k9 + 35 * uNu B' L rk + 4 * (cp 0 + cp 1 + cp 2 + cp 3) + 4 * (co.length + cr.length) ≤ 35 * uNu B L rk + 4 * (cp' 0 + cp' 1 + cp' 2 + cp' 3) + 4 * (co'.length + cr'.length) + c2 ∧ (∀ b ∈ L, ∀ t, tp Z B L vr S.1 t false b → sz < SizeOf.sizeOf (uap S.2.1 t) → B' b = B b) ∧ K a M' (co' ++ cr') nw'
theorem RN.caps {Z : mm_G} {B M : mm_M} {L : List Nat} {vr : Nat → Nat} {S : ts} {gl : List Nat} {rk : Nat} {q ar cp : Nat → Nat} {lv : Int32} {co cr : List (Nat × Nat)} {nw : List Nat} (h : RN Z B M L vr S gl rk q ar cp lv co cr nw) : (co.length ≤ cp 0 ∧ cp 0 ≤ 10 + 2 * co.length) ∧ (co.length ≤ cp 1 ∧ cp 1 ≤ 10 + 2 * co.length) ∧ (cr.length ≤ cp 2 ∧ cp 2 ≤ 10 + 2 * cr.length) ∧ cr.length ≤ cp 3 ∧ cp 3 ≤ 10 + 2 * cr.length := by
  obtain ⟨-, -, h, -⟩ := h
  have h0 := h.len (i := 0) (by decide)
  have h1 := h.len (i := 1) (by decide)
  have h2 := h.len (i := 2) (by decide)
  have h3 := h.len (i := 3) (by decide)
  simp only [RX, List.length_map] at h0 h1 h2 h3
  exact ⟨h0, h1, h2, h3⟩
theorem mm_okmap {M : mm_M} {co : List (Nat × Nat)} {f : Nat × Nat → Nat} (h : ∀ p ∈ co, ∃ ci fs, M (f p) = some (.inr (ci, fs))) : ∀ y ∈ co.map (fun p => some (f p)), mm_ok M y := fun y hy v hv => by
  obtain ⟨p, hp, rfl⟩ := List.mem_map.1 hy
  cases hv
  exact h p hp

set_option maxHeartbeats 4000000 in
set_option maxRecDepth 100000 in
theorem d_X10_renewedOpen (l : Launch) (Z : mm_G) {M : mm_M} {B : mm_M} {L : List Nat} {vr : Nat → Nat} {S : ts} {gl : List Nat} {rk : Nat} {q ar cp : Nat → Nat} {lv : Int32} {co cr : List (Nat × Nat)} {nw : List Nat} (hgl : ∀ g ∈ gl, g < S.1) (hgK : gl.length < 2 ^ 15) (hN : RN Z B M L vr S gl rk q ar cp lv co cr nw) {g : Nat} (hg : g ∈ gl) (hgB : B (vr g) = some (co_E none (S.2.2.2.2 g) (S.2.2.1 g))) : mm_D l Z yX10_renewedOpen (ws_ yX10_renewedOpen cX10_renewedOpen 3 (some (.object "RowenTongue$Open"))) { frames := 10, cells := 3 * (gl.length - (co.length + cr.length)), slots := (20 * gl.length + 160) - (4 * (cp 0 + cp 1 + cp 2 + cp 3) + 4 * (co.length + cr.length)), locals := 320 } [.ref rk, .ref (vr g)] M (rnP Z L vr S gl rk q lv B M cp co cr nw 0 0 0 (fun a M' cs nw' => (g, a) ∈ cs ∧ a ∈ nw' ∧ M' a = some (co_E none lv (S.2.2.1 g)))) mm_nx := by
  refine mm_ofWD (cc := cX10_renewedOpen) (maxL := 3) (ret := (some (.object "RowenTongue$Open"))) (by decide) rfl (Nat.le_of_ble_eq_true rfl) ?_
  intro p e s m below meth c A ls hx hb hr hlk hml hown hmn hts htab hE hST hA hM hS hl
  replace hl : lv_has ls 3 [(0, .ref rk), (1, .ref (vr g))] := hl
  have hle := hN.le
  obtain ⟨hc0, hc1, hc2, hc3⟩ := hN.caps
  obtain ⟨⟨hexB, hC, hal0⟩, ⟨hrkB, hrk⟩, hRL, ⟨h7, h8⟩, ⟨h9, h10, h11⟩, ⟨h12, h13⟩, h14⟩ := id hN
  have hgM := hexB.at hgB
  have hgS := hgl g hg
  have hA0 := (hRL.1 0 (by decide)).1
  obtain ⟨md0, fq0, hq0, -⟩ := id hA0
  have hA1 := (hRL.1 1 (by decide)).1
  obtain ⟨md1, fq1, hq1, -⟩ := id hA1
  have hA2 := (hRL.1 2 (by decide)).1
  obtain ⟨md2, fq2, hq2, -⟩ := id hA2
  have hA3 := (hRL.1 3 (by decide)).1
  obtain ⟨md3, fq3, hq3, -⟩ := id hA3
  refine lv_aload_n hx hb dX10_renewedOpen_0 rfl (lv_at hl 0 rfl) ?_
  refine va_get (D := Z.1) (ci := 8) (v := .ref (q 0)) (C := RX10) (T := TX10) (N := 5) hx hb hts in_X10 hown hE.1 (hM.at hrk) 0 rfl mm_cX10 0 (by decide) (hts _ q685) (fun _ h9 => h9) rfl dX10_renewedOpen_1 ?_
  refine lv_aload_n hx hb dX10_renewedOpen_4 rfl (lv_at hl 1 rfl) ?_
  refine mm_callV (As := [.ref (vr g)]) (rest := []) ⟨hx, hb, hml, hown, hts⟩ hE hST hA (c_J2_indexOf_X11 l Z (o := vr g) hA0 hgM) (cwV 1 hts (lw_V q728 q729 q730 q53 q731) rfl rfl rfl (by decide +kernel) ⟨(by (try dsimp only); omega), (by (try dsimp only); omega)⟩) hM hS mm_cJ2 hq0 rfl hl.1 (Nat.le_of_ble_eq_true rfl) dX10_renewedOpen_5 rfl ⟨(by (try dsimp only); omega), (by (try dsimp only); omega)⟩ (fun _ _ _ _ _ _ h9 => h9.elim) (fun v_1 M_2 H locs hp_3 hM hS => ?_)
  obtain ⟨⟨ix, rfl, hix⟩, eM_2⟩ := hp_3
  rw [eM_2] at hM
  refine lv_istore_n hx hb dX10_renewedOpen_8 rfl hl (by decide) rfl (fun ls hl => ?_)
  replace hl : lv_has ls 3 [(2, .int ix), (0, .ref rk), (1, .ref (vr g))] := hl
  refine lv_iload_n hx hb dX10_renewedOpen_9 rfl (lv_at hl 0 rfl) ?_
  refine lv_iconst (v := -1) hx hb dX10_renewedOpen_10 (by decide) ?_
  rcases hix with ⟨j, rfl, hj, -⟩ | ⟨rfl, hno⟩
  · skip
    have hj0 : j < co.length := by
      rcases Nat.lt_or_ge j co.length with h | h
      · exact h
      · rw [List.getElem?_eq_none (by simp only [RX, List.length_map]; exact h)] at hj; cases hj
    have hjn : nI j ≠ -1 := fun h9 => nI_pos (n := j) (by omega) (by rw [h9]; decide)
    have hpm := List.getElem_mem hj0
    have hgj : (co[j]).1 = g := by
      simp only [RX, List.getElem?_map, List.getElem?_eq_getElem hj0, Option.map_some, Option.some.injEq] at hj
      exact hC.1.2.2.1 _ _ (hgl _ (h7 _ hpm).1) hgS hj
    refine lv_icmp_ne (tgt := 46) hx hb dX10_renewedOpen_11 (by decide) (fun _ => ?_) (fun h9 => absurd h9 hjn)
    refine lv_aload_n hx hb dX10_renewedOpen_46 rfl (lv_at hl 1 rfl) ?_
    refine va_get (D := Z.1) (ci := 8) (v := .ref (q 1)) (C := RX10) (T := TX10) (N := 5) hx hb hts in_X10 hown hE.1 (hM.at hrk) 0 rfl mm_cX10 1 (by decide) (hts _ q686) (fun _ h9 => h9) rfl dX10_renewedOpen_47 ?_
    refine lv_iload_n hx hb dX10_renewedOpen_50 rfl (lv_at hl 0 rfl) ?_
    refine lv_iconst (v := -1) hx hb dX10_renewedOpen_51 (by decide) ?_
    refine lv_icmp_ne (tgt := 67) hx hb dX10_renewedOpen_52 (by decide) (fun _ => ?_) (fun h9 => absurd h9 hjn)
    refine lv_iload_n hx hb dX10_renewedOpen_67 rfl (lv_at hl 0 rfl) ?_
    refine mm_callV (As := [.int (nI j)]) (rest := []) ⟨hx, hb, hml, hown, hts⟩ hE hST hA (c_J2_get l Z (i := j) hA1 (by simp only [RX, List.length_map]; exact hj0)) (cwV 1 hts (lw_V q825 q500 q501 q53 q502) rfl rfl rfl (by decide +kernel) ⟨(by (try dsimp only); omega), (by (try dsimp only); omega)⟩) hM hS mm_cJ2 hq1 rfl hl.1 (Nat.le_of_ble_eq_true rfl) dX10_renewedOpen_68 rfl ⟨(by (try dsimp only); omega), (by (try dsimp only); omega)⟩ (fun _ _ _ _ _ _ h9 => h9.elim) (fun v_4 M_5 H locs hp_6 hM hS => ?_)
    obtain ⟨⟨r9, hr9, rfl⟩, eM_5⟩ := hp_6
    rw [eM_5] at hM
    obtain rfl : r9 = some (co[j]).2 := by simp only [RX, List.getElem?_map, List.getElem?_eq_getElem hj0, Option.map_some, Option.some.injEq] at hr9; exact hr9.symm
    refine W.eq (g2 := F0 m 71 ls [.ref ((co[j]).2)]) rfl ?_
    obtain ⟨-, hnwj, -, hcj⟩ := h7 _ hpm
    rw [hgj] at hcj
    obtain ⟨aj, haj⟩ : ∃ z, z = (co[j]).2 := ⟨_, rfl⟩
    have hpg : (g, aj) ∈ co := by rw [haj, ← hgj]; exact hpm
    rw [← haj] at hcj hnwj ⊢
    refine va_castS hx hb hown (hts _ q722) (hE.1.1 9 _ mm_cX11).2 (mm_recv hE hM mm_cX11 hcj) dX10_renewedOpen_71 ?_
    exact mm_retaD hx hb hr (Or.inl ⟨_, rfl⟩) (Or.inr ⟨_, rfl⟩) hlk hM hS ⟨aj, B, ar, cp, co, cr, nw, rfl, hN, uY.rf _ _, uNS.rf _ _, fun _ h => h, fun _ h => h, Nat.le_refl _, by (try dsimp only); omega, by (try dsimp only); omega, (fun _ _ _ _ _ => rfl), List.mem_append_left _ hpg, hnwj, hcj⟩ dX10_renewedOpen_74 (by (try dsimp only); omega) (by (try dsimp only); omega)
  · skip
    have hng : g ∉ co.map Prod.fst := fun h => by
      obtain ⟨p, hp, e⟩ := List.mem_map.1 h
      obtain ⟨i, hi⟩ := List.mem_iff_getElem?.1 hp
      refine hno i ?_
      simp only [RX, List.getElem?_map, hi, Option.map_some]
      rw [e]
    have hle2 : co.length + cr.length + 1 ≤ gl.length := by
      have h5 : (g :: (co.map Prod.fst ++ cr.map Prod.fst)).Nodup := by
        refine List.nodup_cons.2 ⟨fun hx => ?_, List.nodup_append.2 ⟨h9, h10, fun a ha b hb e => ?_⟩⟩
        · rcases List.mem_append.1 hx with hx | hx
          · exact hng hx
          · obtain ⟨p, hp, e⟩ := List.mem_map.1 hx; obtain ⟨-, -, ⟨bd, l1, l2, l3, k1⟩, -⟩ := h8 p hp; rw [e, hgB] at k1; simp at k1
        · subst e
          obtain ⟨p, hp, rfl⟩ := List.mem_map.1 ha
          obtain ⟨p2, hp2, e⟩ := List.mem_map.1 hb
          obtain ⟨-, -, ⟨bd, l1, l2, k1⟩, -⟩ := h7 p hp
          obtain ⟨-, -, ⟨bd', l1', l2', l3', k2⟩, -⟩ := h8 p2 hp2
          rw [e, k1] at k2; simp at k2
      have h6 := nodup_sub h5 (L := gl) (fun x hx => by
        rcases List.mem_cons.1 hx with rfl | hx
        · exact hg
        rcases List.mem_append.1 hx with hx | hx
        · obtain ⟨p, hp, rfl⟩ := List.mem_map.1 hx; exact (h7 p hp).1
        · obtain ⟨p, hp, rfl⟩ := List.mem_map.1 hx; exact (h8 p hp).1)
      simp only [List.length_cons, List.length_append, List.length_map] at h6
      omega
    refine lv_icmp_ne (tgt := 46) hx hb dX10_renewedOpen_11 (by decide) (fun h9 => absurd (rfl : (-1 : Int32) = -1) h9) (fun _ => ?_)
    have hst0 := gl_step (hRL.1 0 (by decide)).2.2.2 (hRL.len (by decide)).1
    have hst1 := gl_step (hRL.1 1 (by decide)).2.2.2 (hRL.len (by decide)).1
    have hl0 : (RX vr co cr 0).length = co.length := List.length_map _
    have hl1 : (RX vr co cr 1).length = co.length := List.length_map _
    obtain ⟨hs01, hs02, hs03, hs04, hs05⟩ := hst0
    unfold gl_ok at hs01
    obtain ⟨hs11, hs12, hs13, hs14, hs15⟩ := hst1
    unfold gl_ok at hs11
    refine lv_aload_n hx hb dX10_renewedOpen_14 rfl (lv_at hl 1 rfl) ?_
    refine va_get (D := Z.1) (ci := 8) (v := .ref (q 0)) (C := RX10) (T := TX10) (N := 5) hx hb hts in_X10 hown hE.1 (hM.at hrk) 0 rfl mm_cX10 0 (by decide) (hts _ q685) (fun _ h9 => h9) rfl dX10_renewedOpen_15 ?_
    refine lv_aload_n hx hb dX10_renewedOpen_18 rfl (lv_at hl 2 rfl) ?_
    have hAdd0 := c_J2_add l Z hA0 (r := some (vr g)) (by omega) (mm_okmap (f := fun p => vr p.1) (fun p hp => by obtain ⟨-, -, ⟨bd, l1, l2, k1⟩, -⟩ := h7 p hp; exact ⟨_, _, hexB.at k1⟩)) (fun v h8 => by cases h8; exact ⟨_, _, hgM⟩)
    refine mm_callV (As := [.ref (vr g)]) (rest := []) ⟨hx, hb, hml, hown, hts⟩ hE hST hA hAdd0 (cwV 1 hts (lw_V q800 q335 q336 q53 q337) rfl rfl rfl (by decide +kernel) ⟨(by (try dsimp only); omega), (by (try dsimp only); omega)⟩) hM hS mm_cJ2 hq0 rfl hl.1 (Nat.le_of_ble_eq_true rfl) dX10_renewedOpen_19 rfl ⟨(by (try dsimp only); omega), (by (try dsimp only); omega)⟩ (fun _ _ _ _ _ _ h9 => h9.elim) (fun v_4 M_5 H locs hp_6 hM hS => ?_)
    obtain ⟨rfl, ar1, hA91, hk91, ho91⟩ := hp_6
    obtain ⟨hRL1, hex1, hns1⟩ := hRL.add hexB hal0 (by decide) hA91 hk91 ho91
    rw [hl0] at hRL1
    have hrk1 := hns1 rk _ _ hrkB hrk (by decide)
    have hg1 := hex1.at hgB
    have hA11 := (hRL1.1 1 (by decide)).1
    simp only [upf_ne (show (1 : Nat) ≠ 0 from by decide)] at hA11
    obtain ⟨md11, fq11, hq11, -⟩ := id hA11
    refine lv_pop hx hb dX10_renewedOpen_22 rfl ?_
    refine lv_aload_n hx hb dX10_renewedOpen_23 rfl (lv_at hl 1 rfl) ?_
    refine va_get (D := Z.1) (ci := 8) (v := .ref (q 1)) (C := RX10) (T := TX10) (N := 5) hx hb hts in_X10 hown hE.1 (hM.at hrk1) 0 rfl mm_cX10 1 (by decide) (hts _ q686) (fun _ h9 => h9) rfl dX10_renewedOpen_24 ?_
    refine mm_new (D := Z.1) (ci := 9) (fs := mm_f0X11) (C := RX11) (T := TX11) (N := 3) hx hb hts in_X11 tyX11 tyX11_ok hown (hts _ q722) (hts _ q801) (hts _ q78) hE.1 hM hS hA mm_cX11 mm_dfX11 (by (try dsimp only); omega) (by (try dsimp only); omega) dX10_renewedOpen_27 (fun q_8 H nq_7 hM hS => ?_)
    have hM : mm_P Z.1 mm_cl A (mm_U M_5 q_8 (.inr (9, [.null, .int 0, .int 0]))) H := hM
    have ne_9 : rk ≠ q_8 := (mm_neN hrk1 nq_7)
    have ne_10 : (vr g) ≠ q_8 := (mm_neN hg1 nq_7)
    have ne_11 : (q 1) ≠ q_8 := (mm_neN hq11 nq_7)
    have hc_12 : (mm_U M_5 q_8 (.inr (9, [.null, .int 0, .int 0]))) q_8 = some (.inr (9, [.null, .int 0, .int 0])) := mm_U_eq
    have hc_13 : (mm_U M_5 q_8 (.inr (9, [.null, .int 0, .int 0]))) rk = some (.inr (8, [.ref (q 0), .ref (q 1), .ref (q 2), .ref (q 3), .int lv])) := (mm_U_ne ne_9).trans hrk1
    have hc_14 : (mm_U M_5 q_8 (.inr (9, [.null, .int 0, .int 0]))) (vr g) = some (.inr (9, [.null, .int (S.2.2.2.2 g), .int (mm_b (S.2.2.1 g))])) := (mm_U_ne ne_10).trans hg1
    have hc_15 : (mm_U M_5 q_8 (.inr (9, [.null, .int 0, .int 0]))) (q 1) = some (.inr (41, [.int md11, .ref (ar 1), .int (nI (RX vr co cr 1).length)])) := (mm_U_ne ne_11).trans hq11
    obtain ⟨M_16, eM_16⟩ : ∃ z, z = mm_U M_5 q_8 (.inr (9, [.null, .int 0, .int 0])) := ⟨_, rfl⟩
    rw [← eM_16] at hM hc_13 hc_14 hc_15 hc_12
    refine lv_dup hx hb dX10_renewedOpen_30 rfl ?_
    refine lv_aload_n hx hb dX10_renewedOpen_31 rfl (lv_at hl 1 rfl) ?_
    refine va_get (D := Z.1) (ci := 8) (v := .int lv) (C := RX10) (T := TX10) (N := 5) hx hb hts in_X10 hown hE.1 (hM.at hc_13) 0 rfl mm_cX10 4 (by decide) (hts _ q689) (fun _ h9 => h9) rfl dX10_renewedOpen_32 ?_
    refine lv_aload_n hx hb dX10_renewedOpen_35 rfl (lv_at hl 2 rfl) ?_
    refine va_getN (D := Z.1) (ci := 9) (v := .int (mm_b (S.2.2.1 g))) (C := RX11) (T := TX11) (N := 3) hx hb hts in_X11 hown hE.1 (hM.at hc_14) 0 rfl mm_cX11 2 (by decide) (va_Nw.use rfl (hE.2.1 _ q816 rfl)) (fun _ h9 => h9) rfl dX10_renewedOpen_36 ?_
    refine mm_callI (As := [.int lv, .int (mm_b (S.2.2.1 g))]) (rest := [.ref q_8, .ref (q 1)]) ⟨hx, hb, hml, hown, hts⟩ hE hST hA (c_X11_init l Z (M := M_16) (h0 := q_8) (x1 := lv) (x2 := (S.2.2.1 g)) hc_12) (cwI (maxL := 3) 2 hts (lw_meth q804) rfl rfl rfl (hts _ q78) (hts _ q802) (hts _ q803) rfl (by decide +kernel) ⟨(by (try dsimp only); omega), (by (try dsimp only); omega)⟩) hM hS rfl hl.1 (Nat.le_of_ble_eq_true rfl) dX10_renewedOpen_39 rfl ⟨(by (try dsimp only); omega), (by (try dsimp only); omega)⟩ (fun _ _ _ _ _ _ h9 => h9.elim) (fun v_17 M_18 H locs hp_19 hM hS => ?_)
    obtain ⟨rfl, eM_18⟩ := hp_19
    rw [eM_18] at hM
    replace hM : mm_P Z.1 mm_cl A (mm_U M_16 q_8 (.inr (9, [.null, .int lv, .int (mm_b (S.2.2.1 g))]))) H := hM
    have hc_20 : (mm_U M_16 q_8 (.inr (9, [.null, .int lv, .int (mm_b (S.2.2.1 g))]))) q_8 = some (.inr (9, [.null, .int lv, .int (mm_b (S.2.2.1 g))])) := mm_U_eq
    have hc_21 : (mm_U M_16 q_8 (.inr (9, [.null, .int lv, .int (mm_b (S.2.2.1 g))]))) rk = some (.inr (8, [.ref (q 0), .ref (q 1), .ref (q 2), .ref (q 3), .int lv])) := (mm_U_ne ne_9).trans hc_13
    have hc_22 : (mm_U M_16 q_8 (.inr (9, [.null, .int lv, .int (mm_b (S.2.2.1 g))]))) (vr g) = some (.inr (9, [.null, .int (S.2.2.2.2 g), .int (mm_b (S.2.2.1 g))])) := (mm_U_ne ne_10).trans hc_14
    have hc_23 : (mm_U M_16 q_8 (.inr (9, [.null, .int lv, .int (mm_b (S.2.2.1 g))]))) (q 1) = some (.inr (41, [.int md11, .ref (ar 1), .int (nI (RX vr co cr 1).length)])) := (mm_U_ne ne_11).trans hc_15
    obtain ⟨M_24, eM_24⟩ : ∃ z, z = mm_U M_16 q_8 (.inr (9, [.null, .int lv, .int (mm_b (S.2.2.1 g))])) := ⟨_, rfl⟩
    rw [← eM_24] at hM hc_21 hc_22 hc_23 hc_20
    have hexN : mm_Ext M_5 M_24 := by subst eM_24 eM_16; (try rw [mm_U_U]); exact mm_Ext.U nq_7
    have hex2 : mm_Ext B M_24 := hex1.trans hexN
    have hRL2 := hRL1.ext hexN
    have hA12 := hA11.ext hexN
    have hAdd1 := c_J2_add l Z hA12 (r := some q_8) (by omega) (mm_okmap (f := fun p => p.2) (fun p hp => by obtain ⟨-, k2, -, k1⟩ := h7 p hp; exact ⟨_, _, hexN.at (hns1 p.2 _ _ (h13 _ k2).1 k1 (by decide))⟩)) (fun v h8 => by cases h8; exact ⟨_, _, hc_20⟩)
    refine mm_callV (As := [.ref q_8]) (rest := []) ⟨hx, hb, hml, hown, hts⟩ hE hST hA hAdd1 (cwV 1 hts (lw_V q800 q335 q336 q53 q337) rfl rfl rfl (by decide +kernel) ⟨(by (try dsimp only); omega), (by (try dsimp only); omega)⟩) hM hS mm_cJ2 hc_23 rfl hl.1 (Nat.le_of_ble_eq_true rfl) dX10_renewedOpen_42 rfl ⟨(by (try dsimp only); omega), (by (try dsimp only); omega)⟩ (fun _ _ _ _ _ _ h9 => h9.elim) (fun v_25 M_26 H locs hp_27 hM hS => ?_)
    obtain ⟨rfl, ar2, hA92, hk92, ho92⟩ := hp_27
    obtain ⟨hRL3, hex3, hns3⟩ := hRL2.add (i := 1) (ar' := ar2) (r := some q_8) hex2 hal0 (by decide) (by simp only [upf_ne (show (1 : Nat) ≠ 0 from by decide)]; exact hA92) hk92 (by simp only [upf_ne (show (1 : Nat) ≠ 0 from by decide)]; exact ho92)
    have hBq : B q_8 = none := hex1.none nq_7
    have hns9 : uNS B M M_26 := (hns1.trans (uY.rf rk B) hexN.NS).trans (uY.rf rk B) hns3
    have hq3 := hns3 q_8 _ _ hBq hc_20 (by decide)
    have hXe : ∀ i, i < 4 → upf (upf (RX vr co cr) 0 (RX vr co cr 0 ++ [some (vr g)])) 1 (upf (RX vr co cr) 0 (RX vr co cr 0 ++ [some (vr g)]) 1 ++ [some q_8]) i = RX vr (co ++ [(g, q_8)]) cr i := by
      intro i hi
      match i, hi with
      | 0, _ => simp [upf, RX]
      | 1, _ => simp [upf, RX]
      | 2, _ => simp [upf, RX]
      | 3, _ => simp [upf, RX]
    have hNn := hN.snocO (a := q_8) hg ⟨_, _, _, hgB⟩ hng hex3 hns9 (fun ci fs => by by_cases hc : ci = 41; exact Or.inr hc; exact Or.inl (fun h9 => by have h8 := hns1 q_8 _ _ hBq h9 hc; rw [nq_7] at h8; cases h8)) hBq hq3 (hRL3.cg hXe)
    have hrk3 := hNn.2.1.2
    have hA13 := (hNn.2.2.1.1 1 (by decide)).1
    obtain ⟨md13, fq13, hq13, -⟩ := id hA13
    generalize upf (upf ar 0 ar1) 1 ar2 1 = a13 at hq13
    refine lv_pop hx hb dX10_renewedOpen_45 rfl ?_
    refine lv_aload_n hx hb dX10_renewedOpen_46 rfl (lv_at hl 1 rfl) ?_
    refine va_get (D := Z.1) (ci := 8) (v := .ref (q 1)) (C := RX10) (T := TX10) (N := 5) hx hb hts in_X10 hown hE.1 (hM.at hrk3) 0 rfl mm_cX10 1 (by decide) (hts _ q686) (fun _ h9 => h9) rfl dX10_renewedOpen_47 ?_
    refine lv_iload_n hx hb dX10_renewedOpen_50 rfl (lv_at hl 0 rfl) ?_
    refine lv_iconst (v := -1) hx hb dX10_renewedOpen_51 (by decide) ?_
    refine lv_icmp_ne (tgt := 67) hx hb dX10_renewedOpen_52 (by decide) (fun h9 => absurd (rfl : (-1 : Int32) = -1) h9) (fun _ => ?_)
    refine lv_aload_n hx hb dX10_renewedOpen_55 rfl (lv_at hl 1 rfl) ?_
    refine va_get (D := Z.1) (ci := 8) (v := .ref (q 1)) (C := RX10) (T := TX10) (N := 5) hx hb hts in_X10 hown hE.1 (hM.at hrk3) 0 rfl mm_cX10 1 (by decide) (hts _ q686) (fun _ h9 => h9) rfl dX10_renewedOpen_56 ?_
    refine mm_callV (As := []) (rest := [.ref (q 1)]) ⟨hx, hb, hml, hown, hts⟩ hE hST hA (c_J2_size l Z (M := M_26) (h0 := (q 1)) (f0 := md13) (f1 := (some a13)) (f2 := (nI (RX vr (co ++ [(g, q_8)]) cr 1).length)) hq13) (cwV 0 hts (lw_V q824 q178 q179 q53 q180) rfl rfl rfl (by decide +kernel) ⟨(by (try dsimp only); omega), (by (try dsimp only); omega)⟩) hM hS mm_cJ2 hq13 rfl hl.1 (Nat.le_of_ble_eq_true rfl) dX10_renewedOpen_59 rfl ⟨(by (try dsimp only); omega), (by (try dsimp only); omega)⟩ (fun _ _ _ _ _ _ h9 => h9.elim) (fun v_28 M_29 H locs hp_30 hM hS => ?_)
    obtain ⟨rfl, eM_29⟩ := hp_30
    rw [eM_29] at hM
    refine lv_iconst (v := 1) hx hb dX10_renewedOpen_62 (by decide) ?_
    refine lv_isub hx hb dX10_renewedOpen_63 ?_
    rw [show ((nI (RX vr (co ++ [(g, q_8)]) cr 1).length) - 1 : Int32) = nI co.length from by rw [show (RX vr (co ++ [(g, q_8)]) cr 1).length = co.length + 1 from by simp [RX]]; exact nI_pred _]
    refine lv_goto (tgt := 68) hx hb dX10_renewedOpen_64 (by decide) ?_
    refine mm_callV (As := [.int (nI co.length)]) (rest := []) ⟨hx, hb, hml, hown, hts⟩ hE hST hA (c_J2_get l Z (i := co.length) hA13 (by simp [RX])) (cwV 1 hts (lw_V q825 q500 q501 q53 q502) rfl rfl rfl (by decide +kernel) ⟨(by (try dsimp only); omega), (by (try dsimp only); omega)⟩) hM hS mm_cJ2 hq13 rfl hl.1 (Nat.le_of_ble_eq_true rfl) dX10_renewedOpen_68 rfl ⟨(by (try dsimp only); omega), (by (try dsimp only); omega)⟩ (fun _ _ _ _ _ _ h9 => h9.elim) (fun v_31 M_32 H locs hp_33 hM hS => ?_)
    obtain ⟨⟨r9, hr9, rfl⟩, eM_32⟩ := hp_33
    rw [eM_32] at hM
    have h9 : (RX vr (co ++ [(g, q_8)]) cr 1)[co.length]? = some (some q_8) := by simp [RX]
    obtain rfl : r9 = some q_8 := by rw [h9] at hr9; exact (Option.some.inj hr9).symm
    refine W.eq (g2 := F0 m 71 ls [.ref q_8]) rfl ?_
    refine va_castS hx hb hown (hts _ q722) (hE.1.1 9 _ mm_cX11).2 (mm_recv hE hM mm_cX11 hq3) dX10_renewedOpen_71 ?_
    refine mm_retaD hx hb hr (Or.inl ⟨_, rfl⟩) (Or.inr ⟨_, rfl⟩) hlk hM hS ⟨q_8, B, _, _, _, _, _, rfl, hNn, uY.rf _ _, hns9, ?_, fun x hx => List.mem_cons_of_mem _ hx, by simp only [List.length_append, List.length_singleton]; omega, ?_, ?_, (fun _ _ _ _ _ => rfl), List.mem_append_left _ (List.mem_append_right _ List.mem_cons_self), List.mem_cons_self, hq3⟩ dX10_renewedOpen_74 (by (try dsimp only); omega) (by (try dsimp only); omega)
    · intro p hp; rcases List.mem_append.1 hp with hp | hp
      · exact List.mem_append_left _ (List.mem_append_left _ hp)
      · exact List.mem_append_right _ (hp)
    · simp only [List.length_append, List.length_singleton]; (try dsimp only); omega
    · have ez := congrArg (fun n => al_cap n (cp 0)) hl0
      simp only [upf_eq, upf_ne (show (0 : Nat) ≠ 1 from by decide), upf_ne (show (1 : Nat) ≠ 0 from by decide), upf_ne (show (2 : Nat) ≠ 0 from by decide), upf_ne (show (2 : Nat) ≠ 1 from by decide), upf_ne (show (3 : Nat) ≠ 0 from by decide), upf_ne (show (3 : Nat) ≠ 1 from by decide), List.length_append, List.length_singleton]; (try dsimp only); omega
set_option maxHeartbeats 4000000 in
set_option maxRecDepth 100000 in
theorem d_X10_renewedOpenRow (l : Launch) (Z : mm_G) {M : mm_M} {B : mm_M} {L : List Nat} {vr : Nat → Nat} {S : ts} {gl : List Nat} {rk : Nat} {q ar cp : Nat → Nat} {lv : Int32} {co cr : List (Nat × Nat)} {nw : List Nat} (hgl : ∀ g ∈ gl, g < S.1) (hgK : gl.length < 2 ^ 15) (hN : RN Z B M L vr S gl rk q ar cp lv co cr nw) {g : Nat} (hg : g ∈ gl) (hgB : B (vr g) = some (cr_E none (S.2.2.2.2 g) (S.2.2.1 g) (S.2.2.2.1 g))) : mm_D l Z yX10_renewedOpenRow (ws_ yX10_renewedOpenRow cX10_renewedOpenRow 3 (some (.object "RowenTongue$OpenRow"))) { frames := 10, cells := 3 * (gl.length - (co.length + cr.length)), slots := (20 * gl.length + 160) - (4 * (cp 0 + cp 1 + cp 2 + cp 3) + 4 * (co.length + cr.length)), locals := 320 } [.ref rk, .ref (vr g)] M (rnP Z L vr S gl rk q lv B M cp co cr nw 0 0 0 (fun a M' cs nw' => (g, a) ∈ cs ∧ a ∈ nw' ∧ M' a = some (cr_E none lv (S.2.2.1 g) (S.2.2.2.1 g)))) mm_nx := by
  refine mm_ofWD (cc := cX10_renewedOpenRow) (maxL := 3) (ret := (some (.object "RowenTongue$OpenRow"))) (by decide) rfl (Nat.le_of_ble_eq_true rfl) ?_
  intro p e s m below meth c A ls hx hb hr hlk hml hown hmn hts htab hE hST hA hM hS hl
  replace hl : lv_has ls 3 [(0, .ref rk), (1, .ref (vr g))] := hl
  have hle := hN.le
  obtain ⟨hc0, hc1, hc2, hc3⟩ := hN.caps
  obtain ⟨⟨hexB, hC, hal0⟩, ⟨hrkB, hrk⟩, hRL, ⟨h7, h8⟩, ⟨h9, h10, h11⟩, ⟨h12, h13⟩, h14⟩ := id hN
  have hgM := hexB.at hgB
  have hgS := hgl g hg
  have hA0 := (hRL.1 0 (by decide)).1
  obtain ⟨md0, fq0, hq0, -⟩ := id hA0
  have hA1 := (hRL.1 1 (by decide)).1
  obtain ⟨md1, fq1, hq1, -⟩ := id hA1
  have hA2 := (hRL.1 2 (by decide)).1
  obtain ⟨md2, fq2, hq2, -⟩ := id hA2
  have hA3 := (hRL.1 3 (by decide)).1
  obtain ⟨md3, fq3, hq3, -⟩ := id hA3
  refine lv_aload_n hx hb dX10_renewedOpenRow_0 rfl (lv_at hl 0 rfl) ?_
  refine va_get (D := Z.1) (ci := 8) (v := .ref (q 2)) (C := RX10) (T := TX10) (N := 5) hx hb hts in_X10 hown hE.1 (hM.at hrk) 0 rfl mm_cX10 2 (by decide) (hts _ q687) (fun _ h9 => h9) rfl dX10_renewedOpenRow_1 ?_
  refine lv_aload_n hx hb dX10_renewedOpenRow_4 rfl (lv_at hl 1 rfl) ?_
  refine mm_callV (As := [.ref (vr g)]) (rest := []) ⟨hx, hb, hml, hown, hts⟩ hE hST hA (c_J2_indexOf_X15 l Z (o := vr g) hA2 hgM) (cwV 1 hts (lw_V q728 q729 q730 q53 q731) rfl rfl rfl (by decide +kernel) ⟨(by (try dsimp only); omega), (by (try dsimp only); omega)⟩) hM hS mm_cJ2 hq2 rfl hl.1 (Nat.le_of_ble_eq_true rfl) dX10_renewedOpenRow_5 rfl ⟨(by (try dsimp only); omega), (by (try dsimp only); omega)⟩ (fun _ _ _ _ _ _ h9 => h9.elim) (fun v_1 M_2 H locs hp_3 hM hS => ?_)
  obtain ⟨⟨ix, rfl, hix⟩, eM_2⟩ := hp_3
  rw [eM_2] at hM
  refine lv_istore_n hx hb dX10_renewedOpenRow_8 rfl hl (by decide) rfl (fun ls hl => ?_)
  replace hl : lv_has ls 3 [(2, .int ix), (0, .ref rk), (1, .ref (vr g))] := hl
  refine lv_iload_n hx hb dX10_renewedOpenRow_9 rfl (lv_at hl 0 rfl) ?_
  refine lv_iconst (v := -1) hx hb dX10_renewedOpenRow_10 (by decide) ?_
  rcases hix with ⟨j, rfl, hj, -⟩ | ⟨rfl, hno⟩
  · skip
    have hj0 : j < cr.length := by
      rcases Nat.lt_or_ge j cr.length with h | h
      · exact h
      · rw [List.getElem?_eq_none (by simp only [RX, List.length_map]; exact h)] at hj; cases hj
    have hjn : nI j ≠ -1 := fun h9 => nI_pos (n := j) (by omega) (by rw [h9]; decide)
    have hpm := List.getElem_mem hj0
    have hgj : (cr[j]).1 = g := by
      simp only [RX, List.getElem?_map, List.getElem?_eq_getElem hj0, Option.map_some, Option.some.injEq] at hj
      exact hC.1.2.2.1 _ _ (hgl _ (h8 _ hpm).1) hgS hj
    refine lv_icmp_ne (tgt := 50) hx hb dX10_renewedOpenRow_11 (by decide) (fun _ => ?_) (fun h9 => absurd h9 hjn)
    refine lv_aload_n hx hb dX10_renewedOpenRow_50 rfl (lv_at hl 1 rfl) ?_
    refine va_get (D := Z.1) (ci := 8) (v := .ref (q 3)) (C := RX10) (T := TX10) (N := 5) hx hb hts in_X10 hown hE.1 (hM.at hrk) 0 rfl mm_cX10 3 (by decide) (hts _ q688) (fun _ h9 => h9) rfl dX10_renewedOpenRow_51 ?_
    refine lv_iload_n hx hb dX10_renewedOpenRow_54 rfl (lv_at hl 0 rfl) ?_
    refine lv_iconst (v := -1) hx hb dX10_renewedOpenRow_55 (by decide) ?_
    refine lv_icmp_ne (tgt := 71) hx hb dX10_renewedOpenRow_56 (by decide) (fun _ => ?_) (fun h9 => absurd h9 hjn)
    refine lv_iload_n hx hb dX10_renewedOpenRow_71 rfl (lv_at hl 0 rfl) ?_
    refine mm_callV (As := [.int (nI j)]) (rest := []) ⟨hx, hb, hml, hown, hts⟩ hE hST hA (c_J2_get l Z (i := j) hA3 (by simp only [RX, List.length_map]; exact hj0)) (cwV 1 hts (lw_V q825 q500 q501 q53 q502) rfl rfl rfl (by decide +kernel) ⟨(by (try dsimp only); omega), (by (try dsimp only); omega)⟩) hM hS mm_cJ2 hq3 rfl hl.1 (Nat.le_of_ble_eq_true rfl) dX10_renewedOpenRow_72 rfl ⟨(by (try dsimp only); omega), (by (try dsimp only); omega)⟩ (fun _ _ _ _ _ _ h9 => h9.elim) (fun v_4 M_5 H locs hp_6 hM hS => ?_)
    obtain ⟨⟨r9, hr9, rfl⟩, eM_5⟩ := hp_6
    rw [eM_5] at hM
    obtain rfl : r9 = some (cr[j]).2 := by simp only [RX, List.getElem?_map, List.getElem?_eq_getElem hj0, Option.map_some, Option.some.injEq] at hr9; exact hr9.symm
    refine W.eq (g2 := F0 m 75 ls [.ref ((cr[j]).2)]) rfl ?_
    obtain ⟨-, hnwj, -, hcj⟩ := h8 _ hpm
    rw [hgj] at hcj
    obtain ⟨aj, haj⟩ : ∃ z, z = (cr[j]).2 := ⟨_, rfl⟩
    have hpg : (g, aj) ∈ cr := by rw [haj, ← hgj]; exact hpm
    rw [← haj] at hcj hnwj ⊢
    refine va_castS hx hb hown (hts _ q910) (hE.1.1 12 _ mm_cX15).2 (mm_recv hE hM mm_cX15 hcj) dX10_renewedOpenRow_75 ?_
    exact mm_retaD hx hb hr (Or.inl ⟨_, rfl⟩) (Or.inr ⟨_, rfl⟩) hlk hM hS ⟨aj, B, ar, cp, co, cr, nw, rfl, hN, uY.rf _ _, uNS.rf _ _, fun _ h => h, fun _ h => h, Nat.le_refl _, by (try dsimp only); omega, by (try dsimp only); omega, (fun _ _ _ _ _ => rfl), List.mem_append_right _ hpg, hnwj, hcj⟩ dX10_renewedOpenRow_78 (by (try dsimp only); omega) (by (try dsimp only); omega)
  · skip
    have hng : g ∉ cr.map Prod.fst := fun h => by
      obtain ⟨p, hp, e⟩ := List.mem_map.1 h
      obtain ⟨i, hi⟩ := List.mem_iff_getElem?.1 hp
      refine hno i ?_
      simp only [RX, List.getElem?_map, hi, Option.map_some]
      rw [e]
    have hle2 : co.length + cr.length + 1 ≤ gl.length := by
      have h5 : (g :: (co.map Prod.fst ++ cr.map Prod.fst)).Nodup := by
        refine List.nodup_cons.2 ⟨fun hx => ?_, List.nodup_append.2 ⟨h9, h10, fun a ha b hb e => ?_⟩⟩
        · rcases List.mem_append.1 hx with hx | hx
          · obtain ⟨p, hp, e⟩ := List.mem_map.1 hx; obtain ⟨-, -, ⟨bd, l1, l2, k1⟩, -⟩ := h7 p hp; rw [e, hgB] at k1; simp at k1
          · exact hng hx
        · subst e
          obtain ⟨p, hp, rfl⟩ := List.mem_map.1 ha
          obtain ⟨p2, hp2, e⟩ := List.mem_map.1 hb
          obtain ⟨-, -, ⟨bd, l1, l2, k1⟩, -⟩ := h7 p hp
          obtain ⟨-, -, ⟨bd', l1', l2', l3', k2⟩, -⟩ := h8 p2 hp2
          rw [e, k1] at k2; simp at k2
      have h6 := nodup_sub h5 (L := gl) (fun x hx => by
        rcases List.mem_cons.1 hx with rfl | hx
        · exact hg
        rcases List.mem_append.1 hx with hx | hx
        · obtain ⟨p, hp, rfl⟩ := List.mem_map.1 hx; exact (h7 p hp).1
        · obtain ⟨p, hp, rfl⟩ := List.mem_map.1 hx; exact (h8 p hp).1)
      simp only [List.length_cons, List.length_append, List.length_map] at h6
      omega
    refine lv_icmp_ne (tgt := 50) hx hb dX10_renewedOpenRow_11 (by decide) (fun h9 => absurd (rfl : (-1 : Int32) = -1) h9) (fun _ => ?_)
    have hst0 := gl_step (hRL.1 2 (by decide)).2.2.2 (hRL.len (by decide)).1
    have hst1 := gl_step (hRL.1 3 (by decide)).2.2.2 (hRL.len (by decide)).1
    have hl0 : (RX vr co cr 2).length = cr.length := List.length_map _
    have hl1 : (RX vr co cr 3).length = cr.length := List.length_map _
    obtain ⟨hs01, hs02, hs03, hs04, hs05⟩ := hst0
    unfold gl_ok at hs01
    obtain ⟨hs11, hs12, hs13, hs14, hs15⟩ := hst1
    unfold gl_ok at hs11
    refine lv_aload_n hx hb dX10_renewedOpenRow_14 rfl (lv_at hl 1 rfl) ?_
    refine va_get (D := Z.1) (ci := 8) (v := .ref (q 2)) (C := RX10) (T := TX10) (N := 5) hx hb hts in_X10 hown hE.1 (hM.at hrk) 0 rfl mm_cX10 2 (by decide) (hts _ q687) (fun _ h9 => h9) rfl dX10_renewedOpenRow_15 ?_
    refine lv_aload_n hx hb dX10_renewedOpenRow_18 rfl (lv_at hl 2 rfl) ?_
    have hAdd0 := c_J2_add l Z hA2 (r := some (vr g)) (by omega) (mm_okmap (f := fun p => vr p.1) (fun p hp => by obtain ⟨-, -, ⟨bd, l1, l2, l3, k1⟩, -⟩ := h8 p hp; exact ⟨_, _, hexB.at k1⟩)) (fun v h8 => by cases h8; exact ⟨_, _, hgM⟩)
    refine mm_callV (As := [.ref (vr g)]) (rest := []) ⟨hx, hb, hml, hown, hts⟩ hE hST hA hAdd0 (cwV 1 hts (lw_V q800 q335 q336 q53 q337) rfl rfl rfl (by decide +kernel) ⟨(by (try dsimp only); omega), (by (try dsimp only); omega)⟩) hM hS mm_cJ2 hq2 rfl hl.1 (Nat.le_of_ble_eq_true rfl) dX10_renewedOpenRow_19 rfl ⟨(by (try dsimp only); omega), (by (try dsimp only); omega)⟩ (fun _ _ _ _ _ _ h9 => h9.elim) (fun v_4 M_5 H locs hp_6 hM hS => ?_)
    obtain ⟨rfl, ar1, hA91, hk91, ho91⟩ := hp_6
    obtain ⟨hRL1, hex1, hns1⟩ := hRL.add hexB hal0 (by decide) hA91 hk91 ho91
    rw [hl0] at hRL1
    have hrk1 := hns1 rk _ _ hrkB hrk (by decide)
    have hg1 := hex1.at hgB
    have hA11 := (hRL1.1 3 (by decide)).1
    simp only [upf_ne (show (3 : Nat) ≠ 2 from by decide)] at hA11
    obtain ⟨md11, fq11, hq11, -⟩ := id hA11
    refine lv_pop hx hb dX10_renewedOpenRow_22 rfl ?_
    refine lv_aload_n hx hb dX10_renewedOpenRow_23 rfl (lv_at hl 1 rfl) ?_
    refine va_get (D := Z.1) (ci := 8) (v := .ref (q 3)) (C := RX10) (T := TX10) (N := 5) hx hb hts in_X10 hown hE.1 (hM.at hrk1) 0 rfl mm_cX10 3 (by decide) (hts _ q688) (fun _ h9 => h9) rfl dX10_renewedOpenRow_24 ?_
    refine mm_new (D := Z.1) (ci := 12) (fs := mm_f0X15) (C := RX15) (T := TX15) (N := 4) hx hb hts in_X15 tyX15 tyX15_ok hown (hts _ q910) (hts _ q915) (hts _ q82) hE.1 hM hS hA mm_cX15 mm_dfX15 (by (try dsimp only); omega) (by (try dsimp only); omega) dX10_renewedOpenRow_27 (fun q_8 H nq_7 hM hS => ?_)
    have hM : mm_P Z.1 mm_cl A (mm_U M_5 q_8 (.inr (12, [.null, .int 0, .int 0, .int 0]))) H := hM
    have ne_9 : rk ≠ q_8 := (mm_neN hrk1 nq_7)
    have ne_10 : (vr g) ≠ q_8 := (mm_neN hg1 nq_7)
    have ne_11 : (q 3) ≠ q_8 := (mm_neN hq11 nq_7)
    have hc_12 : (mm_U M_5 q_8 (.inr (12, [.null, .int 0, .int 0, .int 0]))) q_8 = some (.inr (12, [.null, .int 0, .int 0, .int 0])) := mm_U_eq
    have hc_13 : (mm_U M_5 q_8 (.inr (12, [.null, .int 0, .int 0, .int 0]))) rk = some (.inr (8, [.ref (q 0), .ref (q 1), .ref (q 2), .ref (q 3), .int lv])) := (mm_U_ne ne_9).trans hrk1
    have hc_14 : (mm_U M_5 q_8 (.inr (12, [.null, .int 0, .int 0, .int 0]))) (vr g) = some (.inr (12, [.null, .int (S.2.2.2.2 g), .int (mm_b (S.2.2.1 g)), .int (S.2.2.2.1 g)])) := (mm_U_ne ne_10).trans hg1
    have hc_15 : (mm_U M_5 q_8 (.inr (12, [.null, .int 0, .int 0, .int 0]))) (q 3) = some (.inr (41, [.int md11, .ref (ar 3), .int (nI (RX vr co cr 3).length)])) := (mm_U_ne ne_11).trans hq11
    obtain ⟨M_16, eM_16⟩ : ∃ z, z = mm_U M_5 q_8 (.inr (12, [.null, .int 0, .int 0, .int 0])) := ⟨_, rfl⟩
    rw [← eM_16] at hM hc_13 hc_14 hc_15 hc_12
    refine lv_dup hx hb dX10_renewedOpenRow_30 rfl ?_
    refine lv_aload_n hx hb dX10_renewedOpenRow_31 rfl (lv_at hl 1 rfl) ?_
    refine va_get (D := Z.1) (ci := 8) (v := .int lv) (C := RX10) (T := TX10) (N := 5) hx hb hts in_X10 hown hE.1 (hM.at hc_13) 0 rfl mm_cX10 4 (by decide) (hts _ q689) (fun _ h9 => h9) rfl dX10_renewedOpenRow_32 ?_
    refine lv_aload_n hx hb dX10_renewedOpenRow_35 rfl (lv_at hl 2 rfl) ?_
    refine va_getN (D := Z.1) (ci := 12) (v := .int (mm_b (S.2.2.1 g))) (C := RX15) (T := TX15) (N := 4) hx hb hts in_X15 hown hE.1 (hM.at hc_14) 0 rfl mm_cX15 2 (by decide) (va_Nw.use rfl (hE.2.1 _ q929 rfl)) (fun _ h9 => h9) rfl dX10_renewedOpenRow_36 ?_
    refine lv_aload_n hx hb dX10_renewedOpenRow_39 rfl (lv_at hl 2 rfl) ?_
    refine va_getN (D := Z.1) (ci := 12) (v := .int (S.2.2.2.1 g)) (C := RX15) (T := TX15) (N := 4) hx hb hts in_X15 hown hE.1 (hM.at hc_14) 0 rfl mm_cX15 3 (by decide) (va_Nw.use rfl (hE.2.1 _ q933 rfl)) (fun _ h9 => h9) rfl dX10_renewedOpenRow_40 ?_
    refine mm_callI (As := [.int lv, .int (mm_b (S.2.2.1 g)), .int (S.2.2.2.1 g)]) (rest := [.ref q_8, .ref (q 3)]) ⟨hx, hb, hml, hown, hts⟩ hE hST hA (c_X15_init l Z (M := M_16) (h0 := q_8) (x1 := lv) (x2 := (S.2.2.1 g)) (x3 := (S.2.2.2.1 g)) hc_12) (cwI (maxL := 4) 3 hts (lw_meth q918) rfl rfl rfl (hts _ q82) (hts _ q916) (hts _ q917) rfl (by decide +kernel) ⟨(by (try dsimp only); omega), (by (try dsimp only); omega)⟩) hM hS rfl hl.1 (Nat.le_of_ble_eq_true rfl) dX10_renewedOpenRow_43 rfl ⟨(by (try dsimp only); omega), (by (try dsimp only); omega)⟩ (fun _ _ _ _ _ _ h9 => h9.elim) (fun v_17 M_18 H locs hp_19 hM hS => ?_)
    obtain ⟨rfl, eM_18⟩ := hp_19
    rw [eM_18] at hM
    replace hM : mm_P Z.1 mm_cl A (mm_U M_16 q_8 (.inr (12, [.null, .int lv, .int (mm_b (S.2.2.1 g)), .int (S.2.2.2.1 g)]))) H := hM
    have hc_20 : (mm_U M_16 q_8 (.inr (12, [.null, .int lv, .int (mm_b (S.2.2.1 g)), .int (S.2.2.2.1 g)]))) q_8 = some (.inr (12, [.null, .int lv, .int (mm_b (S.2.2.1 g)), .int (S.2.2.2.1 g)])) := mm_U_eq
    have hc_21 : (mm_U M_16 q_8 (.inr (12, [.null, .int lv, .int (mm_b (S.2.2.1 g)), .int (S.2.2.2.1 g)]))) rk = some (.inr (8, [.ref (q 0), .ref (q 1), .ref (q 2), .ref (q 3), .int lv])) := (mm_U_ne ne_9).trans hc_13
    have hc_22 : (mm_U M_16 q_8 (.inr (12, [.null, .int lv, .int (mm_b (S.2.2.1 g)), .int (S.2.2.2.1 g)]))) (vr g) = some (.inr (12, [.null, .int (S.2.2.2.2 g), .int (mm_b (S.2.2.1 g)), .int (S.2.2.2.1 g)])) := (mm_U_ne ne_10).trans hc_14
    have hc_23 : (mm_U M_16 q_8 (.inr (12, [.null, .int lv, .int (mm_b (S.2.2.1 g)), .int (S.2.2.2.1 g)]))) (q 3) = some (.inr (41, [.int md11, .ref (ar 3), .int (nI (RX vr co cr 3).length)])) := (mm_U_ne ne_11).trans hc_15
    obtain ⟨M_24, eM_24⟩ : ∃ z, z = mm_U M_16 q_8 (.inr (12, [.null, .int lv, .int (mm_b (S.2.2.1 g)), .int (S.2.2.2.1 g)])) := ⟨_, rfl⟩
    rw [← eM_24] at hM hc_21 hc_22 hc_23 hc_20
    have hexN : mm_Ext M_5 M_24 := by subst eM_24 eM_16; (try rw [mm_U_U]); exact mm_Ext.U nq_7
    have hex2 : mm_Ext B M_24 := hex1.trans hexN
    have hRL2 := hRL1.ext hexN
    have hA12 := hA11.ext hexN
    have hAdd1 := c_J2_add l Z hA12 (r := some q_8) (by omega) (mm_okmap (f := fun p => p.2) (fun p hp => by obtain ⟨-, k2, -, k1⟩ := h8 p hp; exact ⟨_, _, hexN.at (hns1 p.2 _ _ (h13 _ k2).1 k1 (by decide))⟩)) (fun v h8 => by cases h8; exact ⟨_, _, hc_20⟩)
    refine mm_callV (As := [.ref q_8]) (rest := []) ⟨hx, hb, hml, hown, hts⟩ hE hST hA hAdd1 (cwV 1 hts (lw_V q800 q335 q336 q53 q337) rfl rfl rfl (by decide +kernel) ⟨(by (try dsimp only); omega), (by (try dsimp only); omega)⟩) hM hS mm_cJ2 hc_23 rfl hl.1 (Nat.le_of_ble_eq_true rfl) dX10_renewedOpenRow_46 rfl ⟨(by (try dsimp only); omega), (by (try dsimp only); omega)⟩ (fun _ _ _ _ _ _ h9 => h9.elim) (fun v_25 M_26 H locs hp_27 hM hS => ?_)
    obtain ⟨rfl, ar2, hA92, hk92, ho92⟩ := hp_27
    obtain ⟨hRL3, hex3, hns3⟩ := hRL2.add (i := 3) (ar' := ar2) (r := some q_8) hex2 hal0 (by decide) (by simp only [upf_ne (show (3 : Nat) ≠ 2 from by decide)]; exact hA92) hk92 (by simp only [upf_ne (show (3 : Nat) ≠ 2 from by decide)]; exact ho92)
    have hBq : B q_8 = none := hex1.none nq_7
    have hns9 : uNS B M M_26 := (hns1.trans (uY.rf rk B) hexN.NS).trans (uY.rf rk B) hns3
    have hq3 := hns3 q_8 _ _ hBq hc_20 (by decide)
    have hXe : ∀ i, i < 4 → upf (upf (RX vr co cr) 2 (RX vr co cr 2 ++ [some (vr g)])) 3 (upf (RX vr co cr) 2 (RX vr co cr 2 ++ [some (vr g)]) 3 ++ [some q_8]) i = RX vr co (cr ++ [(g, q_8)]) i := by
      intro i hi
      match i, hi with
      | 0, _ => simp [upf, RX]
      | 1, _ => simp [upf, RX]
      | 2, _ => simp [upf, RX]
      | 3, _ => simp [upf, RX]
    have hNn := hN.snocR (a := q_8) hg ⟨_, _, _, _, hgB⟩ hng hex3 hns9 (fun ci fs => by by_cases hc : ci = 41; exact Or.inr hc; exact Or.inl (fun h9 => by have h8 := hns1 q_8 _ _ hBq h9 hc; rw [nq_7] at h8; cases h8)) hBq hq3 (hRL3.cg hXe)
    have hrk3 := hNn.2.1.2
    have hA13 := (hNn.2.2.1.1 3 (by decide)).1
    obtain ⟨md13, fq13, hq13, -⟩ := id hA13
    generalize upf (upf ar 2 ar1) 3 ar2 3 = a13 at hq13
    refine lv_pop hx hb dX10_renewedOpenRow_49 rfl ?_
    refine lv_aload_n hx hb dX10_renewedOpenRow_50 rfl (lv_at hl 1 rfl) ?_
    refine va_get (D := Z.1) (ci := 8) (v := .ref (q 3)) (C := RX10) (T := TX10) (N := 5) hx hb hts in_X10 hown hE.1 (hM.at hrk3) 0 rfl mm_cX10 3 (by decide) (hts _ q688) (fun _ h9 => h9) rfl dX10_renewedOpenRow_51 ?_
    refine lv_iload_n hx hb dX10_renewedOpenRow_54 rfl (lv_at hl 0 rfl) ?_
    refine lv_iconst (v := -1) hx hb dX10_renewedOpenRow_55 (by decide) ?_
    refine lv_icmp_ne (tgt := 71) hx hb dX10_renewedOpenRow_56 (by decide) (fun h9 => absurd (rfl : (-1 : Int32) = -1) h9) (fun _ => ?_)
    refine lv_aload_n hx hb dX10_renewedOpenRow_59 rfl (lv_at hl 1 rfl) ?_
    refine va_get (D := Z.1) (ci := 8) (v := .ref (q 3)) (C := RX10) (T := TX10) (N := 5) hx hb hts in_X10 hown hE.1 (hM.at hrk3) 0 rfl mm_cX10 3 (by decide) (hts _ q688) (fun _ h9 => h9) rfl dX10_renewedOpenRow_60 ?_
    refine mm_callV (As := []) (rest := [.ref (q 3)]) ⟨hx, hb, hml, hown, hts⟩ hE hST hA (c_J2_size l Z (M := M_26) (h0 := (q 3)) (f0 := md13) (f1 := (some a13)) (f2 := (nI (RX vr co (cr ++ [(g, q_8)]) 3).length)) hq13) (cwV 0 hts (lw_V q824 q178 q179 q53 q180) rfl rfl rfl (by decide +kernel) ⟨(by (try dsimp only); omega), (by (try dsimp only); omega)⟩) hM hS mm_cJ2 hq13 rfl hl.1 (Nat.le_of_ble_eq_true rfl) dX10_renewedOpenRow_63 rfl ⟨(by (try dsimp only); omega), (by (try dsimp only); omega)⟩ (fun _ _ _ _ _ _ h9 => h9.elim) (fun v_28 M_29 H locs hp_30 hM hS => ?_)
    obtain ⟨rfl, eM_29⟩ := hp_30
    rw [eM_29] at hM
    refine lv_iconst (v := 1) hx hb dX10_renewedOpenRow_66 (by decide) ?_
    refine lv_isub hx hb dX10_renewedOpenRow_67 ?_
    rw [show ((nI (RX vr co (cr ++ [(g, q_8)]) 3).length) - 1 : Int32) = nI cr.length from by rw [show (RX vr co (cr ++ [(g, q_8)]) 3).length = cr.length + 1 from by simp [RX]]; exact nI_pred _]
    refine lv_goto (tgt := 72) hx hb dX10_renewedOpenRow_68 (by decide) ?_
    refine mm_callV (As := [.int (nI cr.length)]) (rest := []) ⟨hx, hb, hml, hown, hts⟩ hE hST hA (c_J2_get l Z (i := cr.length) hA13 (by simp [RX])) (cwV 1 hts (lw_V q825 q500 q501 q53 q502) rfl rfl rfl (by decide +kernel) ⟨(by (try dsimp only); omega), (by (try dsimp only); omega)⟩) hM hS mm_cJ2 hq13 rfl hl.1 (Nat.le_of_ble_eq_true rfl) dX10_renewedOpenRow_72 rfl ⟨(by (try dsimp only); omega), (by (try dsimp only); omega)⟩ (fun _ _ _ _ _ _ h9 => h9.elim) (fun v_31 M_32 H locs hp_33 hM hS => ?_)
    obtain ⟨⟨r9, hr9, rfl⟩, eM_32⟩ := hp_33
    rw [eM_32] at hM
    have h9 : (RX vr co (cr ++ [(g, q_8)]) 3)[cr.length]? = some (some q_8) := by simp [RX]
    obtain rfl : r9 = some q_8 := by rw [h9] at hr9; exact (Option.some.inj hr9).symm
    refine W.eq (g2 := F0 m 75 ls [.ref q_8]) rfl ?_
    refine va_castS hx hb hown (hts _ q910) (hE.1.1 12 _ mm_cX15).2 (mm_recv hE hM mm_cX15 hq3) dX10_renewedOpenRow_75 ?_
    refine mm_retaD hx hb hr (Or.inl ⟨_, rfl⟩) (Or.inr ⟨_, rfl⟩) hlk hM hS ⟨q_8, B, _, _, _, _, _, rfl, hNn, uY.rf _ _, hns9, ?_, fun x hx => List.mem_cons_of_mem _ hx, by simp only [List.length_append, List.length_singleton]; omega, ?_, ?_, (fun _ _ _ _ _ => rfl), List.mem_append_right _ (List.mem_append_right _ List.mem_cons_self), List.mem_cons_self, hq3⟩ dX10_renewedOpenRow_78 (by (try dsimp only); omega) (by (try dsimp only); omega)
    · intro p hp; rcases List.mem_append.1 hp with hp | hp
      · exact List.mem_append_left _ (hp)
      · exact List.mem_append_right _ (List.mem_append_left _ hp)
    · simp only [List.length_append, List.length_singleton]; (try dsimp only); omega
    · have ez := congrArg (fun n => al_cap n (cp 2)) hl0
      simp only [upf_eq, upf_ne (show (0 : Nat) ≠ 2 from by decide), upf_ne (show (0 : Nat) ≠ 3 from by decide), upf_ne (show (1 : Nat) ≠ 2 from by decide), upf_ne (show (1 : Nat) ≠ 3 from by decide), upf_ne (show (2 : Nat) ≠ 3 from by decide), upf_ne (show (3 : Nat) ≠ 2 from by decide), List.length_append, List.length_singleton]; (try dsimp only); omega
