/-! ===== renewing types ===== -/
set_option maxRecDepth 100000
/-- what types' cells say stays (lists may change, and what is not yet made) -/
def uT (M M' : mm_M) : Prop := ∀ a : Nat, (∀ lb ty rs, M a = some (ce_E lb (some ty) (some rs)) → M' a = some (ce_E lb (some ty) (some rs))) ∧ (M a = some cn_E → M' a = some cn_E) ∧ (M a = some cz_E → M' a = some cz_E) ∧ (∀ bd lv lk, M a = some (co_E bd lv lk) → ∃ bd' lv' lk', M' a = some (co_E bd' lv' lk')) ∧
  (∀ bd lv lk lc, M a = some (cr_E bd lv lk lc) → ∃ bd' lv' lk', M' a = some (cr_E bd' lv' lk' lc)) ∧ (∀ f g sm bq rn, M a = some (cf_E (some f) (some g) sm bq rn) → ∃ sm' bq' rn', M' a = some (cf_E (some f) (some g) sm' bq' rn')) ∧ ∀ iv w sm bq rn, M a = some (cb_E iv (some w) sm bq rn) → ∃ sm' bq' rn', M' a = some (cb_E iv (some w) sm' bq' rn')
theorem uK.O {M M' : mm_M} (h : uK M M') {a : Nat} {bd : Option Nat} {lv : Int32} {lk : Bool} (ha : M a = some (co_E bd lv lk)) : ∃ bd' lv' lk', M' a = some (co_E bd' lv' lk') := by
  rcases h a _ ha with k | ⟨bd2, lv2, lk2, bd3, lv3, lk3, e2, k⟩ | ⟨bd2, lv2, lk2, bd3, lv3, lk3, lc3, e2, k⟩ | ⟨f2, g2, sm2, bq2, rn2, sm3, bq3, rn3, e2, k, kby⟩ | ⟨iv2, w2, sm2, bq2, rn2, sm3, bq3, rn3, e2, k, kby⟩
  · exact ⟨_, _, _, k⟩
  · exact ⟨_, _, _, k⟩
  all_goals (exfalso; simp at e2)
theorem uK.T {M M' : mm_M} (h : uK M M') : uT M M' := fun _ =>
  ⟨fun _ _ _ ha => h.atC ha (by decide), fun ha => h.atC ha (by decide), fun ha => h.atC ha (by decide), fun _ _ _ ha => h.O ha, fun _ _ _ _ ha => h.R ha, fun _ _ _ _ _ ha => h.F ha, fun _ _ _ _ _ ha => h.B ha⟩
theorem tp.monoT {Z : mm_G} {M M' : mm_M} {L L' : List Nat} {vr vr' : Nat → Nat} {n n' : Nat} (hK : uT M M') (hL : ∀ a ∈ L, a ∈ L') (hv : ∀ v, v < n → vr' v = vr v) (hn : n ≤ n') (t : ev) (m : Bool) (a : Nat) (h : tp Z M L vr n t m a) : tp Z M' L' vr' n' t m a := by
  unfold tp at h
  split at h
  · obtain ⟨h1, h2, h3⟩ := h; simp only [tp]; exact ⟨h1, h2, (hK _).2.1 h3⟩
  · obtain ⟨h1, h2, h3, bd, lv, lk, h4⟩ := h
    simp only [tp]
    exact ⟨Nat.lt_of_lt_of_le h1 hn, by rw [hv _ h1]; exact h2, hL _ h3, (hK _).2.2.2.1 _ _ _ h4⟩
  · rename_i x y
    obtain ⟨f, g, sm, bq, rn, h1, h2, h3, h4⟩ := h
    simp only [tp]
    obtain ⟨sm', bq', rn', k⟩ := (hK _).2.2.2.2.2.1 _ _ _ _ _ h2
    exact ⟨f, g, _, _, _, hL _ h1, k, tp.monoT hK hL hv hn x _ _ h3, tp.monoT hK hL hv hn y _ _ h4⟩
  · rename_i r j
    obtain ⟨iv, w, sm, bq, rn, h1, h0, h2, h3⟩ := h
    simp only [tp]
    obtain ⟨sm', bq', rn', k⟩ := (hK _).2.2.2.2.2.2 _ _ _ _ _ h2
    exact ⟨iv, w, _, _, _, hL _ h1, h0, k, tp.monoT hK hL hv hn r _ _ h3⟩
  · obtain ⟨h1, h2, h3⟩ := h; simp only [tp]; exact ⟨h1, h2, (hK _).2.2.1 h3⟩
  · obtain ⟨h1, h2, h3, bd, lv, lk, lc, h4⟩ := h
    simp only [tp]
    obtain ⟨bd', lv', lk', k⟩ := (hK _).2.2.2.2.1 _ _ _ _ h4
    exact ⟨Nat.lt_of_lt_of_le h1 hn, by rw [hv _ h1]; exact h2, hL _ h3, _, _, _, _, k⟩
  · rename_i x k r
    obtain ⟨ty, rs, h0, h1, h2, h3⟩ := h
    simp only [tp]
    exact ⟨ty, rs, h0, (hK _).1 _ _ _ h1, tp.monoT hK hL hv hn x _ _ h2, tp.monoT hK hL hv hn r _ _ h3⟩
  · exact h.elim
termination_by SizeOf.sizeOf t
decreasing_by all_goals (subst_vars; simp_all; try omega)
/-- by and renewed alone have changed: by rk -/
def uY (rk : Nat) (B B' : mm_M) : Prop := (∀ z, B z = none → B' z = none) ∧ ∀ (a : Nat) (e : va_E), B a = some e → B' a = some e ∨ (∃ f g sm bq rn rn', e = cf_E f g sm bq rn ∧ B' a = some (cf_E f g sm (some rk) rn')) ∨ ∃ iv w sm bq rn rn', e = cb_E iv w sm bq rn ∧ B' a = some (cb_E iv w sm (some rk) rn')
theorem uY.rf (rk : Nat) (B : mm_M) : uY rk B B := ⟨fun _ h => h, fun _ _ h => Or.inl h⟩
theorem uY.trans {rk : Nat} {B C D : mm_M} (h1 : uY rk B C) (h2 : uY rk C D) : uY rk B D := by
  refine ⟨fun z hz => h2.1 z (h1.1 z hz), fun a e he => ?_⟩
  rcases h1.2 a e he with k | ⟨f, g, sm, bq, rn, rn', rfl, k⟩ | ⟨iv, w, sm, bq, rn, rn', rfl, k⟩
  · exact h2.2 a e k
  · rcases h2.2 a _ k with k2 | ⟨f2, g2, sm2, bq2, rn2, rn3, e2, k2⟩ | ⟨iv2, w2, sm2, bq2, rn2, rn3, e2, k2⟩
    · exact Or.inr (Or.inl ⟨_, _, _, _, _, _, rfl, k2⟩)
    · obtain ⟨rfl, rfl, rfl, -⟩ := cf_inj e2; exact Or.inr (Or.inl ⟨_, _, _, _, _, _, rfl, k2⟩)
    · exfalso; simp at e2
  · rcases h2.2 a _ k with k2 | ⟨f2, g2, sm2, bq2, rn2, rn3, e2, k2⟩ | ⟨iv2, w2, sm2, bq2, rn2, rn3, e2, k2⟩
    · exact Or.inr (Or.inr ⟨_, _, _, _, _, _, rfl, k2⟩)
    · exfalso; simp at e2
    · obtain ⟨rfl, rfl, rfl, -⟩ := cb_inj e2; exact Or.inr (Or.inr ⟨_, _, _, _, _, _, rfl, k2⟩)
theorem uT.of {M M' : mm_M} (h : ∀ (a ci : Nat) (fs : List Value), M a = some (.inr (ci, fs)) → ci ≠ 41 → (∀ f g : Option Nat, f = none ∨ g = none → ∀ sm bq rn, (.inr (ci, fs) : va_E) ≠ cf_E f g sm bq rn) → (∀ iv sm bq rn, (.inr (ci, fs) : va_E) ≠ cb_E iv none sm bq rn) → (∀ lb ty rs, ty = none ∨ rs = none → (.inr (ci, fs) : va_E) ≠ ce_E lb ty rs) → M' a = some (.inr (ci, fs)) ∨ (∃ f g sm bq rn sm' bq' rn', (.inr (ci, fs) : va_E) = cf_E f g sm bq rn ∧ M' a = some (cf_E f g sm' bq' rn')) ∨ ∃ iv w sm bq rn sm' bq' rn', (.inr (ci, fs) : va_E) = cb_E iv w sm bq rn ∧ M' a = some (cb_E iv w sm' bq' rn')) : uT M M' := fun a => by
  have n1 : ∀ {ci : Nat} {fs : List Value}, ci ≠ 10 → ∀ f g : Option Nat, f = none ∨ g = none → ∀ sm bq rn, (.inr (ci, fs) : va_E) ≠ cf_E f g sm bq rn := fun hc _ _ _ _ _ _ e => hc (Prod.mk.inj (Sum.inr.inj e)).1
  have n2 : ∀ {ci : Nat} {fs : List Value}, ci ≠ 6 → ∀ iv sm bq rn, (.inr (ci, fs) : va_E) ≠ cb_E iv none sm bq rn := fun hc _ _ _ _ e => hc (Prod.mk.inj (Sum.inr.inj e)).1
  have n3 : ∀ {ci : Nat} {fs : List Value}, ci ≠ 11 → ∀ lb ty rs, ty = none ∨ rs = none → (.inr (ci, fs) : va_E) ≠ ce_E lb ty rs := fun hc _ _ _ _ e => hc (Prod.mk.inj (Sum.inr.inj e)).1
  refine ⟨fun lb ty rs ha => ?_, fun ha => ?_, fun ha => ?_, fun bd lv lk ha => ?_, fun bd lv lk lc ha => ?_, fun f g sm bq rn ha => ?_, fun iv w sm bq rn ha => ?_⟩
  · rcases h a _ _ ha (by decide) (n1 (by decide)) (n2 (by decide)) (fun lb' ty' rs' hn e => by obtain ⟨-, rfl, rfl⟩ := ce_inj e; rcases hn with hn | hn <;> cases hn) with k | ⟨_, _, _, _, _, _, _, _, e, -⟩ | ⟨_, _, _, _, _, _, _, _, e, -⟩
    · exact k
    · simp at e
    · simp at e
  · rcases h a _ _ ha (by decide) (n1 (by decide)) (n2 (by decide)) (n3 (by decide)) with k | ⟨_, _, _, _, _, _, _, _, e, -⟩ | ⟨_, _, _, _, _, _, _, _, e, -⟩
    · exact k
    · simp at e
    · simp at e
  · rcases h a _ _ ha (by decide) (n1 (by decide)) (n2 (by decide)) (n3 (by decide)) with k | ⟨_, _, _, _, _, _, _, _, e, -⟩ | ⟨_, _, _, _, _, _, _, _, e, -⟩
    · exact k
    · simp at e
    · simp at e
  · rcases h a _ _ ha (by decide) (n1 (by decide)) (n2 (by decide)) (n3 (by decide)) with k | ⟨_, _, _, _, _, _, _, _, e, -⟩ | ⟨_, _, _, _, _, _, _, _, e, -⟩
    · exact ⟨_, _, _, k⟩
    · simp at e
    · simp at e
  · rcases h a _ _ ha (by decide) (n1 (by decide)) (n2 (by decide)) (n3 (by decide)) with k | ⟨_, _, _, _, _, _, _, _, e, -⟩ | ⟨_, _, _, _, _, _, _, _, e, -⟩
    · exact ⟨_, _, _, k⟩
    · simp at e
    · simp at e
  · rcases h a _ _ ha (by decide) (fun f' g' hn sm' bq' rn' e => by obtain ⟨rfl, rfl, -⟩ := cf_inj e; rcases hn with hn | hn <;> cases hn) (n2 (by decide)) (n3 (by decide)) with k | ⟨_, _, _, _, _, _, _, _, e, k⟩ | ⟨_, _, _, _, _, _, _, _, e, -⟩
    · exact ⟨_, _, _, k⟩
    · obtain ⟨rfl, rfl, -⟩ := cf_inj e; exact ⟨_, _, _, k⟩
    · simp at e
  · rcases h a _ _ ha (by decide) (n1 (by decide)) (fun iv' sm' bq' rn' e => by obtain ⟨-, hn, -⟩ := cb_inj e; cases hn) (n3 (by decide)) with k | ⟨_, _, _, _, _, _, _, _, e, -⟩ | ⟨_, _, _, _, _, _, _, _, e, k⟩
    · exact ⟨_, _, _, k⟩
    · simp at e
    · obtain ⟨rfl, rfl, -⟩ := cb_inj e; exact ⟨_, _, _, k⟩
theorem uY.T {rk : Nat} {B B' : mm_M} (h : uY rk B B') : uT B B' := uT.of fun a ci fs ha _ _ _ _ => by
  rcases h.2 a _ ha with k | ⟨f, g, sm, bq, rn, rn', e, k⟩ | ⟨iv, w, sm, bq, rn, rn', e, k⟩
  · exact Or.inl k
  · exact Or.inr (Or.inl ⟨_, _, _, _, _, _, _, _, e, k⟩)
  · exact Or.inr (Or.inr ⟨_, _, _, _, _, _, _, _, e, k⟩)
theorem uY.next {rk : Nat} {B B' : mm_M} (h : uY rk B B') {a : Nat} {e : va_E} (ha : B a = some e) : unext B' a = unext B a := by
  rcases h.2 a e ha with k | ⟨f, g, sm, bq, rn, rn', rfl, k⟩ | ⟨iv, w, sm, bq, rn, rn', rfl, k⟩
  · unfold unext; rw [k, ha]
  · rw [unext_cf k, unext_cf ha]
  · rw [unext_cb k, unext_cb ha]
theorem uY.atC {rk : Nat} {B B' : mm_M} {a ci : Nat} {fs : List Value} (h : uY rk B B') (ha : B a = some (.inr (ci, fs))) (hc : ci ≠ 6 ∧ ci ≠ 10) : B' a = some (.inr (ci, fs)) := by
  rcases h.2 a _ ha with k | ⟨f, g, sm, bq, rn, rn', e, k⟩ | ⟨iv, w, sm, bq, rn, rn', e, k⟩
  · exact k
  · exact absurd (Prod.mk.inj (Sum.inr.inj e)).1 hc.2
  · exact absurd (Prod.mk.inj (Sum.inr.inj e)).1 hc.1
theorem uY.has {rk : Nat} {B B' : mm_M} (h : uY rk B B') {a : Nat} (ha : B a ≠ none) : B' a ≠ none := by
  cases he : B a with
  | none => exact absurd he ha
  | some e => rcases h.2 a e he with k | ⟨_, _, _, _, _, _, _, k⟩ | ⟨_, _, _, _, _, _, _, k⟩ <;> (rw [k]; exact fun h9 => by cases h9)
theorem uY.K {rk : Nat} {B B' M' : mm_M} (h : uY rk B B') (hx : mm_Ext B' M') (hr : M' rk ≠ none) : uK B M' := by
  intro a e he
  rcases h.2 a e he with k | ⟨f, g, sm, bq, rn, rn', rfl, k⟩ | ⟨iv, w, sm, bq, rn, rn', rfl, k⟩
  · exact Or.inl (hx.at k)
  · exact Or.inr (Or.inr (Or.inr (Or.inl ⟨_, _, _, _, _, _, _, _, rfl, hx.at k, fun q hq => by cases hq; exact Or.inr hr⟩)))
  · exact Or.inr (Or.inr (Or.inr (Or.inr ⟨_, _, _, _, _, _, _, _, rfl, hx.at k, fun q hq => by cases hq; exact Or.inr hr⟩)))
theorem uY.phi {rk : Nat} {B B' : mm_M} {Z : mm_G} {L : List Nat} {vr : Nat → Nat} {n : Nat} (h : uY rk B B') (hL : ∀ a ∈ L, ∃ m t, tp Z B L vr n t m a) : uPhi B' L = uPhi B L := by
  unfold uPhi
  refine List.countP_congr fun a ha => ?_
  obtain ⟨m, t, h1⟩ := hL a ha
  obtain ⟨e, he⟩ := h1.some
  rw [h.next he]
theorem uCI.byY {Z : mm_G} {B B' : mm_M} {L : List Nat} {vr : Nat → Nat} {S : ts} {rk : Nat} (hC : uCI Z B L vr S) (h : uY rk B B') : uCI Z B' L vr S := by
  obtain ⟨c1, d1, d2, ⟨rr, d3⟩, d4, d5⟩ := hC
  have mono : ∀ t m a, tp Z B L vr S.1 t m a → tp Z B' L vr S.1 t m a := fun t m a h9 => tp.monoT h.T (fun _ h => h) (fun _ _ => rfl) (Nat.le_refl _) t m a h9
  refine ⟨c1, fun v hv => ⟨(d1 v hv).1, ?_⟩, fun a ha => ?_, ⟨rr, fun a ha => ?_⟩, h.atC d4 (by decide), h.atC d5 (by decide)⟩
  · rcases (d1 v hv).2 with ⟨bd, h1, h2⟩ | ⟨bd, h1, h2⟩
    · exact Or.inl ⟨bd, h.atC h1 (by decide), h2⟩
    · exact Or.inr ⟨bd, h.atC h1 (by decide), h2⟩
  · obtain ⟨m, t, h1⟩ := d2 a ha
    exact ⟨m, t, mono _ _ _ h1⟩
  · rw [h.phi d2]
    refine ⟨(d3 a ha).1, fun o ho => ?_⟩
    obtain ⟨m, t, h1⟩ := d2 a ha
    obtain ⟨e, he⟩ := h1.some
    rw [h.next he] at ho
    obtain ⟨e1, m2, t2, t3, e2, e3, e4⟩ := (d3 a ha).2 o ho
    exact ⟨e1, m2, t2, t3, mono _ _ _ e2, mono _ _ _ e3, e4⟩
/-- what is new stays -/
def uNS (B M M' : mm_M) : Prop := ∀ (z ci : Nat) (fs : List Value), B z = none → M z = some (.inr (ci, fs)) → ci ≠ 41 → M' z = some (.inr (ci, fs))
theorem uNS.rf (B M : mm_M) : uNS B M M := fun _ _ _ _ h _ => h
theorem uNS.trans {rk : Nat} {B B1 M M1 M2 : mm_M} (h1 : uNS B M M1) (hY : uY rk B B1) (h2 : uNS B1 M1 M2) : uNS B M M2 := fun z ci fs hz hm hc => h2 z ci fs (hY.1 z hz) (h1 z ci fs hz hm hc) hc
theorem uNS.T {rk : Nat} {B B' M M' : mm_M} (h : ∀ (z ci : Nat) (fs : List Value), B z = none → M z = some (.inr (ci, fs)) → ci ≠ 41 → (∀ f g : Option Nat, f = none ∨ g = none → ∀ sm bq rn, (.inr (ci, fs) : va_E) ≠ cf_E f g sm bq rn) → (∀ iv sm bq rn, (.inr (ci, fs) : va_E) ≠ cb_E iv none sm bq rn) → (∀ lb ty rs, ty = none ∨ rs = none → (.inr (ci, fs) : va_E) ≠ ce_E lb ty rs) → M' z = some (.inr (ci, fs))) (hx : mm_Ext B M) (hY : uY rk B B') (hx' : mm_Ext B' M') : uT M M' := uT.of fun a ci fs ha hc h1 h2 h3 => by
  cases hB : B a with
  | none => exact Or.inl (h a ci fs hB ha hc h1 h2 h3)
  | some e =>
    have h4 := hx.at hB
    rw [ha] at h4
    cases h4
    rcases hY.2 a _ hB with k | ⟨f, g, sm, bq, rn, rn', e, k⟩ | ⟨iv, w, sm, bq, rn, rn', e, k⟩
    · exact Or.inl (hx'.at k)
    · exact Or.inr (Or.inl ⟨_, _, _, _, _, _, _, _, e, hx'.at k⟩)
    · exact Or.inr (Or.inr ⟨_, _, _, _, _, _, _, _, e, hx'.at k⟩)
theorem uNS.T' {rk : Nat} {B B' M M' : mm_M} (h : uNS B M M') (hx : mm_Ext B M) (hY : uY rk B B') (hx' : mm_Ext B' M') : uT M M' := uNS.T (fun z ci fs h1 h2 h3 _ _ _ => h z ci fs h1 h2 h3) hx hY hx'
/-- how deep renewing goes; a row's cells -/
def urn : ev → Nat
  | .add (.pow _ _) r => urn r + 1
  | _ => 0
def uz : ev → Nat
  | .sub x y => max (uz x) (uz y) + 2
  | .add (.pow x _) r => max (uz x) (uz r)
  | .pow r _ => urn r + uz r + 3
  | _ => 0
theorem urn_ins {k : Nat} {t : ev} : ∀ r : ev, urn (uins k t r) = urn r + 1
  | .add (.pow u j) r => by
    unfold uins
    split
    · rfl
    · simp only [urn]; rw [urn_ins r]
  | .add (.num _) _ | .add (.natCast _) _ | .add (.intCast _) _ | .add (.var _) _ | .add (.neg _) _ | .add (.add _ _) _ | .add (.sub _ _) _ | .add (.mul _ _) _
  | .num _ | .natCast _ | .intCast _ | .var _ | .neg _ | .sub _ _ | .mul _ _ | .pow _ _ => by simp only [uins, urn]
theorem uz_ins {k : Nat} {t : ev} : ∀ r : ev, urow r → uz (uins k t r) = max (uz t) (uz r)
  | .add (.pow u j) r, h => by
    unfold uins
    split
    · rfl
    · simp only [uz]; rw [uz_ins r h]; omega
  | .natCast k, _ => by simp only [uins, uz]
  | .var k, _ => by simp only [uins, uz]

/-- a row of labels below 10 that differ has at most 10 cells -/
def ulb : ev → List Nat
  | .add (.pow _ k) r => k :: ulb r
  | _ => []
theorem ulb_len : ∀ r : ev, (ulb r).length = urn r
  | .add (.pow _ _) r => by simp only [ulb, urn, List.length_cons, ulb_len r]
  | .add (.num _) _ | .add (.natCast _) _ | .add (.intCast _) _ | .add (.var _) _ | .add (.neg _) _ | .add (.add _ _) _ | .add (.sub _ _) _ | .add (.mul _ _) _
  | .num _ | .natCast _ | .intCast _ | .var _ | .neg _ | .sub _ _ | .mul _ _ | .pow _ _ => rfl
theorem ulb_get {l : Nat} : ∀ r : ev, l ∈ ulb r → uget r l ≠ none
  | .add (.pow t k) r, h => by
    simp only [ulb, List.mem_cons] at h
    simp only [uget]
    rcases h with rfl | h
    · rw [if_pos rfl]; exact fun h9 => by cases h9
    · split
      · exact fun h9 => by cases h9
      · exact ulb_get r h
  | .add (.num _) _, h | .add (.natCast _) _, h | .add (.intCast _) _, h | .add (.var _) _, h | .add (.neg _) _, h | .add (.add _ _) _, h | .add (.sub _ _) _, h | .add (.mul _ _) _, h
  | .num _, h | .natCast _, h | .intCast _, h | .var _, h | .neg _, h | .sub _ _, h | .mul _ _, h | .pow _ _, h => by simp only [ulb] at h; exact absurd h List.not_mem_nil
theorem ulb_nodup {g : ug} : ∀ r : ev, uwf g true r → (ulb r).Nodup ∧ ∀ l ∈ ulb r, l < 10
  | .add (.pow t k) r, h => by
    simp only [uwf] at h
    obtain ⟨h1, h2, h3, h4, h5⟩ := h
    obtain ⟨h6, h7⟩ := ulb_nodup r h3
    simp only [ulb]
    refine ⟨List.nodup_cons.2 ⟨fun h9 => ulb_get r h9 h4, h6⟩, fun l hl => ?_⟩
    rcases List.mem_cons.1 hl with rfl | hl
    · exact h1
    · exact h7 l hl
  | .natCast _, _ => ⟨List.nodup_nil, fun l hl => absurd hl List.not_mem_nil⟩
  | .var _, _ => ⟨List.nodup_nil, fun l hl => absurd hl List.not_mem_nil⟩
theorem urn_le {g : ug} {r : ev} (h : uwf g true r) : urn r ≤ 10 := by
  rw [← ulb_len]
  obtain ⟨h1, h2⟩ := ulb_nodup r h
  have h3 := nodup_sub h1 (L := List.range 10) (fun l hl => List.mem_range.2 (h2 l hl))
  simpa using h3
/-- four lists of one's own that grow -/
def RL (Z : mm_G) (B M : mm_M) (q ar cp : Nat → Nat) (X : Nat → List (Option Nat)) : Prop :=
  (∀ i, i < 4 → AL Z M (q i) (ar i) (cp i) (X i) ∧ B (q i) = none ∧ (cp i = 0 ∨ B (ar i) = none) ∧ gl_ok (cp i) (X i).length) ∧ ∀ i j, i < 4 → j < 4 → i ≠ j → q i ≠ q j ∧ (cp i = 0 ∨ cp j = 0 ∨ ar i ≠ ar j)
def upf {α : Type} (f : Nat → α) (i : Nat) (x : α) : Nat → α := fun j => if j = i then x else f j
theorem upf_eq {α : Type} {f : Nat → α} {i : Nat} {x : α} : upf f i x i = x := if_pos rfl
theorem upf_ne {α : Type} {f : Nat → α} {i j : Nat} {x : α} (h : j ≠ i) : upf f i x j = f j := if_neg h
theorem RL.ext {Z : mm_G} {B M M' : mm_M} {q ar cp : Nat → Nat} {X : Nat → List (Option Nat)} (h : RL Z B M q ar cp X) (hx : mm_Ext M M') : RL Z B M' q ar cp X :=
  ⟨fun i hi => by obtain ⟨h1, h2⟩ := h.1 i hi; exact ⟨h1.ext hx, h2⟩, h.2⟩
theorem RL.len {Z : mm_G} {B M : mm_M} {q ar cp : Nat → Nat} {X : Nat → List (Option Nat)} (h : RL Z B M q ar cp X) {i : Nat} (hi : i < 4) : (X i).length ≤ cp i ∧ cp i ≤ 10 + 2 * (X i).length := by
  obtain ⟨⟨_, _, _, _, h1, -⟩, -, -, h2⟩ := h.1 i hi
  exact ⟨h1, h2.2⟩
/-- a thing is added to the list i; old things and lists stay -/
theorem RL.add {Z : mm_G} {B M Ma : mm_M} {q ar cp : Nat → Nat} {X : Nat → List (Option Nat)} (h : RL Z B M q ar cp X) (hx : mm_Ext B M) (h0 : al_0 Z B) {i ar' : Nat} (hi : i < 4) {r : Option Nat}
    (hA : AL Z Ma (q i) ar' (al_cap (X i).length (cp i)) (X i ++ [r])) (hk : ∀ z, z ≠ q i → z ≠ ar' → Ma z = M z) (ho : ar' = ar i ∧ (X i).length < cp i ∨ M ar' = none) :
    RL Z B Ma q (upf ar i ar') (upf cp i (al_cap (X i).length (cp i))) (upf X i (X i ++ [r])) ∧ mm_Ext B Ma ∧ uNS B M Ma := by
  obtain ⟨hAi, hqi, hai, hgi⟩ := h.1 i hi
  have hlen := h.len hi
  have hn : B ar' = none := by
    rcases ho with ⟨e, h10⟩ | h10
    · rcases hai with h5 | h5
      · omega
      · rw [e]; exact h5
    · exact hx.none h10
  obtain ⟨⟨fs7, h71⟩, x7, h72⟩ := hAi.hd
  have hstep := gl_step hgi hlen.1
  have hxB : mm_Ext B Ma := fun z hz => by rw [hk z (fun e => hz (e ▸ hqi)) (fun e => hz (e ▸ hn)), hx z hz]
  refine ⟨⟨fun j hj => ?_, fun j k hj hkk hjk => ?_⟩, hxB, fun z ci fs hz hm hc => ?_⟩
  · by_cases e : j = i
    · subst e
      rw [upf_eq, upf_eq, upf_eq]
      refine ⟨hA, hqi, Or.inr hn, by rw [List.length_append]; exact hstep.1⟩
    · rw [upf_ne e, upf_ne e, upf_ne e]
      obtain ⟨hAj, hqj, haj, hgj⟩ := h.1 j hj
      refine ⟨?_, hqj, haj, hgj⟩
      obtain ⟨md, f, k1, k2, k3, k4, k5, k6⟩ := hAj
      have hdj := h.2 i j hi hj (Ne.symm e)
      refine ⟨md, f, ?_, ?_, k3, k4, k5, k6⟩
      · rw [hk (q j) (Ne.symm hdj.1) (fun e9 => ?_)]
        · exact k1
        · rcases ho with ⟨e1, -⟩ | e1
          · rw [e9, e1, h72] at k1; cases k1
          · rw [e9, e1] at k1; cases k1
      · rw [hk (ar j) (fun e9 => by rw [e9, h71] at k2; cases k2) (fun e9 => ?_)]
        · exact k2
        · rcases ho with ⟨e1, h10⟩ | e1
          · rcases hdj.2 with h11 | h11 | h11
            · omega
            · have h12 := k5 h11
              obtain ⟨f0, hf0⟩ := h0
              rw [← h12, e9] at hf0
              rw [hf0] at hn; cases hn
            · exact h11 (e1 ▸ e9.symm)
          · rw [e9, e1] at k2; cases k2
  · by_cases e : j = i
    · subst e
      have hd := h.2 j k hj hkk hjk
      rw [upf_eq, upf_eq, upf_ne (Ne.symm hjk), upf_ne (Ne.symm hjk)]
      refine ⟨hd.1, Or.inr ?_⟩
      obtain ⟨⟨_, _, _, k2, _, _, k5, _⟩, -, -, -⟩ := h.1 k hkk
      by_cases hck : cp k = 0
      · exact Or.inl hck
      · right
        intro e9
        rcases ho with ⟨e1, h10⟩ | e1
        · rcases hd.2 with h11 | h11 | h11
          · omega
          · exact hck h11
          · exact h11 (by rw [← e1, e9])
        · rw [← e9, e1] at k2; cases k2
    · by_cases e2 : k = i
      · subst e2
        have hd := h.2 j k hj hkk hjk
        rw [upf_eq, upf_eq, upf_ne e, upf_ne e]
        refine ⟨hd.1, ?_⟩
        obtain ⟨⟨_, _, _, k2, _, _, k5, _⟩, -, -, -⟩ := h.1 j hj
        by_cases hck : cp j = 0
        · exact Or.inl hck
        · right; right
          intro e9
          rcases ho with ⟨e1, h10⟩ | e1
          · rcases hd.2 with h11 | h11 | h11
            · exact hck h11
            · omega
            · exact h11 (by rw [e9, e1])
          · rw [e9, e1] at k2; cases k2
      · rw [upf_ne e, upf_ne e2, upf_ne e, upf_ne e2]
        exact h.2 j k hj hkk hjk
  · rw [hk z (fun e => ?_) (fun e => ?_)]
    · exact hm
    · rw [e, h71] at hm; exact hc (Prod.mk.inj (Sum.inr.inj (Option.some.inj hm))).1.symm
    · rcases ho with ⟨e1, -⟩ | e1
      · rw [e, e1, h72] at hm; cases hm
      · rw [e, e1] at hm; cases hm
/-- a general variable gets a new number -/
def uth (gl : List Nat) (n : Nat) (v : Nat) : ev := if v ∈ gl then .var (n + gl.idxOf v) else .var v
/-- what stands at a, with new variables where they are known -/
def RPt (Z : mm_G) (M : mm_M) (L : List Nat) (vr : Nat → Nat) (n : Nat) (gl nw : List Nat) (cs : List (Nat × Nat)) (t : ev) (m : Bool) (a : Nat) : Prop :=
  ∀ vr9 : Nat → Nat, (∀ v, v < n → vr9 v = vr v) → (∀ p ∈ cs, vr9 (n + gl.idxOf p.1) = p.2) → tp Z M (nw ++ L) vr9 (n + gl.length) t m a
theorem RPt.mono {Z : mm_G} {M M' : mm_M} {L : List Nat} {vr : Nat → Nat} {n : Nat} {gl nw nw' : List Nat} {cs cs' : List (Nat × Nat)} {t : ev} {m : Bool} {a : Nat} (h : RPt Z M L vr n gl nw cs t m a) (hT : uT M M') (hn : ∀ x ∈ nw, x ∈ nw') (hc : ∀ p ∈ cs, p ∈ cs') : RPt Z M' L vr n gl nw' cs' t m a :=
  fun vr9 h1 h2 => tp.monoT hT (fun x hx => by rcases List.mem_append.1 hx with hx | hx; exact List.mem_append_left _ (hn x hx); exact List.mem_append_right _ hx) (fun _ _ => rfl) (Nat.le_refl _) _ _ _ (h vr9 h1 (fun p hp => h2 p (hc p hp)))
theorem RPt.old {Z : mm_G} {M : mm_M} {L : List Nat} {vr : Nat → Nat} {n : Nat} {gl nw : List Nat} {cs : List (Nat × Nat)} {t : ev} {m : Bool} {a : Nat} (h : tp Z M L vr n t m a) : RPt Z M L vr n gl nw cs t m a :=
  fun vr9 h1 _ => tp.monoT (uK.rf M).T (fun x hx => List.mem_append_right _ hx) h1 (Nat.le_add_right _ _) _ _ _ h
/-- the lists of a Renewal: the variables of types and of rows that have new ones -/
def RX (vr : Nat → Nat) (co cr : List (Nat × Nat)) : Nat → List (Option Nat)
  | 0 => co.map fun p => some (vr p.1)
  | 1 => co.map fun p => some p.2
  | 2 => cr.map fun p => some (vr p.1)
  | _ => cr.map fun p => some p.2
/-- what was renewed: b's new one -/
def RCA (Z : mm_G) (B M : mm_M) (L : List Nat) (vr : Nat → Nat) (S : ts) (gl nw : List Nat) (cs : List (Nat × Nat)) (b : Nat) (rn : Option Nat) : Prop :=
  ∃ (a' : Nat) (t' : ev), rn = some a' ∧ RPt Z M L vr S.1 gl nw cs t' false a' ∧ ∀ t, tp Z B L vr S.1 t false b → uap S.2.1 t' = uap (uth gl S.1) (uap S.2.1 t) ∧ ∀ g ∈ gl, uoc g (uap S.2.1 t) = true → ∃ x, (g, x) ∈ cs
/-- while a type is renewed: B is what was there; rk the Renewal; co, cr the variables that have new ones; nw what is new -/
def RN (Z : mm_G) (B M : mm_M) (L : List Nat) (vr : Nat → Nat) (S : ts) (gl : List Nat) (rk : Nat) (q ar cp : Nat → Nat) (lv : Int32) (co cr : List (Nat × Nat)) (nw : List Nat) : Prop :=
  (mm_Ext B M ∧ uCI Z B L vr S ∧ al_0 Z B) ∧ (B rk = none ∧ M rk = some (.inr (8, [.ref (q 0), .ref (q 1), .ref (q 2), .ref (q 3), .int lv]))) ∧ RL Z B M q ar cp (RX vr co cr) ∧
  ((∀ p ∈ co, p.1 ∈ gl ∧ p.2 ∈ nw ∧ (∃ bd lv lk, B (vr p.1) = some (co_E bd lv lk)) ∧ M p.2 = some (co_E none lv (S.2.2.1 p.1))) ∧ ∀ p ∈ cr, p.1 ∈ gl ∧ p.2 ∈ nw ∧ (∃ bd lv lk lc, B (vr p.1) = some (cr_E bd lv lk lc)) ∧ M p.2 = some (cr_E none lv (S.2.2.1 p.1) (S.2.2.2.1 p.1))) ∧
  ((co.map Prod.fst).Nodup ∧ (cr.map Prod.fst).Nodup ∧ ((co ++ cr).map Prod.snd).Nodup) ∧
  (nw.Nodup ∧ ∀ x ∈ nw, B x = none ∧ ((∃ p ∈ co ++ cr, p.2 = x) ∨ ∃ t', RPt Z M L vr S.1 gl nw (co ++ cr) t' false x ∧ ((∃ f g : Nat, M x = some (cf_E (some f) (some g) none none none)) ∨ ∃ (iv : Bool) (w : Nat), M x = some (cb_E iv (some w) none none none)))) ∧
  ∀ b ∈ L, (∀ f g sm rn, B b = some (cf_E f g sm (some rk) rn) → RCA Z B M L vr S gl nw (co ++ cr) b rn) ∧ ∀ iv w sm rn, B b = some (cb_E iv w sm (some rk) rn) → RCA Z B M L vr S gl nw (co ++ cr) b rn
/-- how many are not renewed yet -/
def uNu (B : mm_M) (L : List Nat) (rk : Nat) : Nat := L.countP fun a => match B a with
  | some (.inr (10, [_, _, .null, .ref b, _])) => b != rk
  | some (.inr (6, [_, _, .null, .ref b, _])) => b != rk
  | some (.inr (10, [_, _, .null, .null, _])) => true
  | some (.inr (6, [_, _, .null, .null, _])) => true
  | _ => false

