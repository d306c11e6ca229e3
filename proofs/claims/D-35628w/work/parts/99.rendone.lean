/-! ===== a type is renewed: the new state ===== -/
set_option maxRecDepth 100000
/-- whose new one u is -/
def uog (gl : List Nat) (n u : Nat) : Nat := if u < n then u else (gl[u - n]?).getD u
/-- new variables for the general ones -/
def ts_inst (S : ts) (gl : List Nat) (lv : Int32) : ts := (S.1 + gl.length, S.2.1, (fun u => S.2.2.1 (uog gl S.1 u)), (fun u => S.2.2.2.1 (uog gl S.1 u)), fun u => if u < S.1 then S.2.2.2.2 u else lv)
theorem uog_lt {gl : List Nat} {n u : Nat} (h : u < n) : uog gl n u = u := if_pos h
theorem uog_new {gl : List Nat} {n i g : Nat} (h : gl[i]? = some g) : uog gl n (n + i) = g := by
  unfold uog
  rw [if_neg (by omega), show n + i - n = i from by omega, h]; rfl
/-- where the new ones stand -/
def vr_inst (vr : Nat → Nat) (gl : List Nat) (n : Nat) (cs : List (Nat × Nat)) : Nat → Nat := fun v => if v < n then vr v else ((cs.find? fun p => n + gl.idxOf p.1 == v).map Prod.snd).getD 0
theorem vr_inst_lt {vr : Nat → Nat} {gl : List Nat} {n : Nat} {cs : List (Nat × Nat)} {v : Nat} (h : v < n) : vr_inst vr gl n cs v = vr v := if_pos h
theorem idxOf_inj {gl : List Nat} {a b : Nat} (ha : a ∈ gl) (h : gl.idxOf a = gl.idxOf b) (hb : b ∈ gl) : a = b := by
  have h1 := List.getElem_idxOf (List.idxOf_lt_length_of_mem ha)
  have h2 := List.getElem_idxOf (List.idxOf_lt_length_of_mem hb)
  rw [← h1, ← h2]; congr 1
theorem vr_inst_new {vr : Nat → Nat} {gl : List Nat} {n : Nat} {cs : List (Nat × Nat)} (hg : ∀ p ∈ cs, p.1 ∈ gl) (hn : (cs.map Prod.fst).Nodup) {p : Nat × Nat} (hp : p ∈ cs) : vr_inst vr gl n cs (n + gl.idxOf p.1) = p.2 := by
  unfold vr_inst
  rw [if_neg (by omega)]
  cases h : cs.find? (fun p9 => n + gl.idxOf p9.1 == n + gl.idxOf p.1) with
  | none =>
    have h1 := List.find?_eq_none.1 h p hp
    simp at h1
  | some p2 =>
    have h1 := List.find?_some h
    have h2 := List.mem_of_find?_eq_some h
    simp only [beq_iff_eq, Nat.add_left_cancel_iff] at h1
    have h3 := idxOf_inj (hg _ h2) h1 (hg _ hp)
    have h4 : p2 = p := by
      obtain ⟨i, hi⟩ := List.mem_iff_getElem?.1 h2
      obtain ⟨j, hj⟩ := List.mem_iff_getElem?.1 hp
      have hi2 : (cs.map Prod.fst)[i]? = some p.1 := by rw [List.getElem?_map, hi]; exact congrArg some h3
      have hj2 : (cs.map Prod.fst)[j]? = some p.1 := by rw [List.getElem?_map, hj]; rfl
      have hij : i = j := (List.getElem?_inj (by
        rcases Nat.lt_or_ge i (cs.map Prod.fst).length with h9 | h9
        · exact h9
        · rw [List.getElem?_eq_none h9] at hi2; cases hi2) hn).1 (hi2.trans hj2.symm)
      subst hij
      exact Option.some.inj (hi.symm.trans hj)
    rw [h4]; rfl
/-- all general variables have new ones: the state with them -/
theorem RN.done {Z : mm_G} {B M : mm_M} {L : List Nat} {vr : Nat → Nat} {S : ts} {gl : List Nat} {rk : Nat} {q ar cp : Nat → Nat} {lv : Int32} {co cr : List (Nat × Nat)} {nw : List Nat} (h : RN Z B M L vr S gl rk q ar cp lv co cr nw) (hgl : ∀ g ∈ gl, g < S.1) (hgn : gl.Nodup) (hall : ∀ g ∈ gl, ∃ x, (g, x) ∈ co ++ cr) :
    uCI Z M (nw ++ L) (vr_inst vr gl S.1 (co ++ cr)) (ts_inst S gl lv) ∧ (∀ p ∈ co ++ cr, vr_inst vr gl S.1 (co ++ cr) (S.1 + gl.idxOf p.1) = p.2) ∧ uPhi M (nw ++ L) = uPhi B L + nw.length := by
  have hobj := fun x (hx : x ∈ nw) => h.obj hx
  obtain ⟨⟨h1, h2, h3⟩, ⟨h4, h5⟩, h6, ⟨h7, h8⟩, ⟨h9, h10, h11⟩, ⟨h12, h13⟩, h14⟩ := h
  have hcsg : ∀ p ∈ co ++ cr, p.1 ∈ gl := fun p hp => by
    rcases List.mem_append.1 hp with hp | hp
    · exact (h7 p hp).1
    · exact (h8 p hp).1
  have hcsn : ∀ p ∈ co ++ cr, p.2 ∈ nw := fun p hp => by
    rcases List.mem_append.1 hp with hp | hp
    · exact (h7 p hp).2.1
    · exact (h8 p hp).2.1
  have hnd : ((co ++ cr).map Prod.fst).Nodup := by
    rw [List.map_append]
    refine List.nodup_append.2 ⟨h9, h10, fun a ha b hb e => ?_⟩
    subst e
    obtain ⟨p, hp, rfl⟩ := List.mem_map.1 ha
    obtain ⟨p2, hp2, e⟩ := List.mem_map.1 hb
    obtain ⟨-, -, ⟨bd, l1, l2, k1⟩, -⟩ := h7 p hp
    obtain ⟨-, -, ⟨bd', l1', l2', l3', k2⟩, -⟩ := h8 p2 hp2
    rw [e, k1] at k2
    simp at k2
  have hv : ∀ p ∈ co ++ cr, vr_inst vr gl S.1 (co ++ cr) (S.1 + gl.idxOf p.1) = p.2 := fun p hp => vr_inst_new hcsg hnd hp
  -- each new number
  have hnum : ∀ v, S.1 ≤ v → v < S.1 + gl.length → ∃ g x, gl[v - S.1]? = some g ∧ (g, x) ∈ co ++ cr ∧ v = S.1 + gl.idxOf g ∧ vr_inst vr gl S.1 (co ++ cr) v = x := fun v hv1 hv2 => by
    have hi : v - S.1 < gl.length := by omega
    obtain ⟨x, hx⟩ := hall gl[v - S.1] (List.getElem_mem hi)
    have e1 : gl.idxOf gl[v - S.1] = v - S.1 := hgn.idxOf_getElem _ hi
    refine ⟨gl[v - S.1], x, List.getElem?_eq_getElem hi, hx, by rw [e1]; omega, ?_⟩
    have h9 := hv _ hx
    rw [e1, show S.1 + (v - S.1) = v from by omega] at h9
    exact h9
  have hLn : ∀ x ∈ nw, x ∉ L := fun x hx hL => by
    obtain ⟨m, t, k⟩ := h2.2.2.1 x hL
    obtain ⟨e, he⟩ := k.some
    rw [(h13 x hx).1] at he; cases he
  have mono : ∀ t m a, tp Z B L vr S.1 t m a → tp Z M (nw ++ L) (vr_inst vr gl S.1 (co ++ cr)) (S.1 + gl.length) t m a := fun t m a k =>
    tp.monoT h1.uK.T (fun x hx => List.mem_append_right _ hx) (fun v hv => vr_inst_lt hv) (Nat.le_add_right _ _) _ _ _ k
  have hun : ∀ x ∈ nw, unext M x = none := fun x hx => by
    rcases (h13 x hx).2 with ⟨p, hp, rfl⟩ | ⟨t', -, ⟨f, g, k⟩ | ⟨iv, w, k⟩⟩
    · rcases List.mem_append.1 hp with hp | hp
      · obtain ⟨-, -, -, k⟩ := h7 p hp; exact unext_co k
      · obtain ⟨-, -, -, k⟩ := h8 p hp; exact unext_cr k
    · exact unext_cf (f := some f) (g := some g) k
    · exact unext_cb (w := some w) k
  have hold : ∀ a ∈ L, unext M a = unext B a := fun a ha => by
    obtain ⟨m, t, k⟩ := h2.2.2.1 a ha
    obtain ⟨e, he⟩ := k.some
    unfold unext; rw [h1.at he, he]
  have hphi : uPhi M (nw ++ L) = uPhi B L + nw.length := by
    unfold uPhi
    rw [List.countP_append]
    have e1 : nw.countP (fun a => (unext M a).isNone) = nw.length := List.countP_eq_length.2 (fun x hx => by rw [hun x hx]; rfl)
    have e2 : L.countP (fun a => (unext M a).isNone) = L.countP (fun a => (unext B a).isNone) := List.countP_congr (fun a ha => by rw [hold a ha])
    rw [e1, e2]; omega
  have hin : ∀ u v, u < S.1 + gl.length → v < S.1 + gl.length → vr_inst vr gl S.1 (co ++ cr) u = vr_inst vr gl S.1 (co ++ cr) v → u = v := fun u v hu hv9 e => by
    rcases Nat.lt_or_ge u S.1 with h15 | h15 <;> rcases Nat.lt_or_ge v S.1 with h16 | h16
    · rw [vr_inst_lt h15, vr_inst_lt h16] at e; exact h2.1.2.2.1 u v h15 h16 e
    · obtain ⟨g, x, -, k2, -, k4⟩ := hnum v h16 hv9
      rw [vr_inst_lt h15, k4] at e
      exact absurd (e ▸ (h2.2.1 u h15).1) (hLn x (hcsn _ k2))
    · obtain ⟨g, x, -, k2, -, k4⟩ := hnum u h15 hu
      rw [vr_inst_lt h16, k4] at e
      exact absurd (e ▸ (h2.2.1 v h16).1) (hLn x (hcsn _ k2))
    · obtain ⟨g, x, k1, k2, k3, k4⟩ := hnum u h15 hu
      obtain ⟨g', x', k1', k2', k3', k4'⟩ := hnum v h16 hv9
      rw [k4, k4'] at e
      subst e
      obtain ⟨i, hi⟩ := List.mem_iff_getElem?.1 k2
      obtain ⟨j, hj⟩ := List.mem_iff_getElem?.1 k2'
      have hi2 : ((co ++ cr).map Prod.snd)[i]? = some x := by rw [List.getElem?_map, hi]; rfl
      have hj2 : ((co ++ cr).map Prod.snd)[j]? = some x := by rw [List.getElem?_map, hj]; rfl
      have hij : i = j := (List.getElem?_inj (by
        rcases Nat.lt_or_ge i ((co ++ cr).map Prod.snd).length with h9 | h9
        · exact h9
        · rw [List.getElem?_eq_none h9] at hi2; cases hi2) h11).1 (hi2.trans hj2.symm)
      subst hij
      have e2 := Option.some.inj (hi.symm.trans hj)
      simp only [Prod.mk.injEq, and_true] at e2
      subst e2
      rw [k3, k3']
  obtain ⟨⟨c1, c2, c3, c4, c5⟩, d1, d2, ⟨rr, d3⟩, d4, d5⟩ := h2
  refine ⟨⟨⟨c1, List.nodup_append.2 ⟨h12, c2, fun a ha b hb e => hLn a ha (e ▸ hb)⟩, hin, fun v hv9 => c4 v (Nat.le_trans (Nat.le_add_right _ _) hv9), fun v hv9 u hu => ?_⟩, fun v hv9 => ?_, fun a ha => ?_, ⟨fun a => if a ∈ nw then 0 else rr a, fun a ha => ?_⟩, h1.at d4, h1.at d5⟩, hv, hphi⟩
  · have hu : uoc u (S.2.1 v) = true := hu
    have hv9 : v < S.1 + gl.length := hv9
    show u < S.1 + gl.length
    rcases Nat.lt_or_ge v S.1 with h15 | h15
    · exact Nat.lt_of_lt_of_le (c5 v h15 u hu) (Nat.le_add_right _ _)
    · rw [c4 v h15] at hu
      simp only [uoc, beq_iff_eq] at hu
      rw [← show v = u from hu]; exact hv9
  · have hv9 : v < S.1 + gl.length := hv9
    rcases Nat.lt_or_ge v S.1 with h15 | h15
    · rw [vr_inst_lt h15]
      obtain ⟨k1, k2⟩ := d1 v h15
      refine ⟨List.mem_append_right _ k1, ?_⟩
      have e1 : (ts_inst S gl lv).2.2.2.2 v = S.2.2.2.2 v := if_pos h15
      have e2 : (ts_inst S gl lv).2.2.1 v = S.2.2.1 v := by show S.2.2.1 (uog gl S.1 v) = _; rw [uog_lt h15]
      have e3 : (ts_inst S gl lv).2.2.2.1 v = S.2.2.2.1 v := by show S.2.2.2.1 (uog gl S.1 v) = _; rw [uog_lt h15]
      rw [e1, e2, e3]
      rcases k2 with ⟨bd, k2, k3⟩ | ⟨bd, k2, k3⟩
      · exact Or.inl ⟨bd, h1.at k2, k3⟩
      · exact Or.inr ⟨bd, h1.at k2, k3⟩
    · obtain ⟨g, x, k1, k2, k3, k4⟩ := hnum v h15 hv9
      rw [k4]
      refine ⟨List.mem_append_left _ (hcsn _ k2), ?_⟩
      have e0 : uog gl S.1 v = g := by
        have e9 := uog_new (n := S.1) k1
        rw [show S.1 + (v - S.1) = v from by omega] at e9
        exact e9
      have e1 : (ts_inst S gl lv).2.2.2.2 v = lv := if_neg (by omega)
      have e2 : (ts_inst S gl lv).2.2.1 v = S.2.2.1 g := by show S.2.2.1 (uog gl S.1 v) = _; rw [e0]
      have e3 : (ts_inst S gl lv).2.2.2.1 v = S.2.2.2.1 g := by show S.2.2.2.1 (uog gl S.1 v) = _; rw [e0]
      rw [e1, e2, e3]
      have e4 : S.2.1 v = .var v := c4 v h15
      rcases List.mem_append.1 k2 with k2 | k2
      · obtain ⟨-, -, -, k⟩ := h7 _ k2; exact Or.inl ⟨none, k, fun _ => e4, fun _ => rfl⟩
      · obtain ⟨-, -, -, k⟩ := h8 _ k2; exact Or.inr ⟨none, k, fun _ => e4, fun _ => rfl⟩
  · rcases List.mem_append.1 ha with ha | ha
    · rcases (h13 a ha).2 with ⟨p, hp, e⟩ | ⟨t', k, -⟩
      · have e9 := hv p hp
        have hlt : S.1 + gl.idxOf p.1 < S.1 + gl.length := Nat.add_lt_add_left (List.idxOf_lt_length_of_mem (hcsg p hp)) _
        rw [e] at e9
        rcases List.mem_append.1 hp with hp2 | hp2
        · obtain ⟨-, -, -, k⟩ := h7 p hp2
          rw [e] at k
          exact ⟨false, .var (S.1 + gl.idxOf p.1), by simp only [tp]; exact ⟨hlt, e9.symm, List.mem_append_left _ ha, _, _, _, k⟩⟩
        · obtain ⟨-, -, -, k⟩ := h8 p hp2
          rw [e] at k
          exact ⟨true, .var (S.1 + gl.idxOf p.1), by simp only [tp]; exact ⟨hlt, e9.symm, List.mem_append_left _ ha, _, _, _, _, k⟩⟩
      · exact ⟨false, t', k _ (fun v hv => vr_inst_lt hv) hv⟩
    · obtain ⟨m, t, k⟩ := d2 a ha
      exact ⟨m, t, mono _ _ _ k⟩
  · rw [hphi, List.length_append]
    dsimp only
    rcases List.mem_append.1 ha with ha | ha
    · rw [if_pos ha, hun a ha]
      refine ⟨?_, fun o ho => by cases ho⟩
      have := uPhi_le B L
      omega
    · have hna : a ∉ nw := fun h9 => hLn a h9 ha
      rw [if_neg hna, hold a ha]
      obtain ⟨k1, k2⟩ := d3 a ha
      refine ⟨by omega, fun o ho => ?_⟩
      obtain ⟨e1, m2, t2, t3, e2, e3, e4⟩ := k2 o ho
      refine ⟨fun hoL => ?_, m2, t2, t3, mono _ _ _ e2, mono _ _ _ e3, e4⟩
      obtain ⟨e9, he9⟩ := e3.some
      have hno : o ∉ nw := fun h9 => by rw [(h13 o h9).1] at he9; cases he9
      rw [if_neg hno]
      rcases List.mem_append.1 hoL with h9 | h9
      · exact absurd h9 hno
      · exact e1 h9
