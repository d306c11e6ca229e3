/-! ===== what a type is, seen; changes of levels and marks ===== -/
set_option maxRecDepth 100000
/-- a type, seen -/
theorem uCI.nowT {Z : mm_G} {M : mm_M} {L : List Nat} {vr : Nat → Nat} {S : ts} (hC : uCI Z M L vr S) {t : ev} {a : Nat} (h : tp Z M L vr S.1 t false a) : ∃ (d b : Nat) (t' : ev), d ≤ L.length + 1 ∧ ct_now M d a b ∧ tp Z M L vr S.1 t' false b ∧ uap S.2.1 t' = uap S.2.1 t ∧
    ((uap S.2.1 t = .natCast 0 ∧ b = Z.2.2.1 0 ∧ M b = some cn_E) ∨
     (∃ v, v < S.1 ∧ uap S.2.1 t = .var v ∧ S.2.1 v = .var v ∧ b = vr v ∧ b ∈ L ∧ M b = some (co_E none (S.2.2.2.2 v) (S.2.2.1 v))) ∨
     (∃ x y f g bq rn, uap S.2.1 t = .sub (uap S.2.1 x) (uap S.2.1 y) ∧ b ∈ L ∧ M b = some (cf_E (some f) (some g) none bq rn) ∧ tp Z M L vr S.1 x false f ∧ tp Z M L vr S.1 y false g) ∨
     ∃ r iv w bq rn, uap S.2.1 t = .pow (uap S.2.1 r) iv.toNat ∧ b ∈ L ∧ M b = some (cb_E iv (some w) none bq rn) ∧ tp Z M L vr S.1 r true w) := by
  obtain ⟨d, b, t', hd, hn, -, ht, he, hu⟩ := hC.now h
  refine ⟨d, b, t', hd, hn rfl, ht, he, ?_⟩
  have ht2 := ht
  generalize hm : false = m at ht
  unfold tp at ht
  split at ht
  · obtain ⟨rfl, h1, h2⟩ := ht; exact Or.inl ⟨he.symm, h1, h2⟩
  · rename_i v
    obtain ⟨hv, rfl, hL, bd, lv, lk, h2⟩ := ht
    rw [unext_co h2] at hu
    subst hu
    obtain ⟨-, h3⟩ := hC.2.1 v hv
    rcases h3 with ⟨bd, h3, h4⟩ | ⟨bd, h3, -⟩
    · obtain ⟨rfl, rfl, rfl⟩ := co_inj (Option.some.inj (h2.symm.trans h3))
      have h5 := h4.1 rfl
      exact Or.inr (Or.inl ⟨v, hv, by rw [← he]; exact h5, h5, rfl, hL, h3⟩)
    · rw [h2] at h3; simp at h3
  · rename_i x y
    obtain ⟨f, g, sm, bq, rn, hL, h2, hf, hg⟩ := ht
    rw [unext_cf h2] at hu
    subst hu
    exact Or.inr (Or.inr (Or.inl ⟨x, y, f, g, bq, rn, he.symm, hL, h2, hf, hg⟩))
  · rename_i r k
    obtain ⟨iv, w, sm, bq, rn, hL, rfl, h2, hw⟩ := ht
    rw [unext_cb h2] at hu
    subst hu
    exact Or.inr (Or.inr (Or.inr ⟨r, iv, w, bq, rn, he.symm, hL, h2, hw⟩))
  all_goals (first | (exact absurd hm (by decide)) | (exact ht.elim))
/-- a row, seen -/
theorem uCI.nowR {Z : mm_G} {M : mm_M} {L : List Nat} {vr : Nat → Nat} {S : ts} (hC : uCI Z M L vr S) {t : ev} {a : Nat} (h : tp Z M L vr S.1 t true a) : ∃ (d b : Nat) (t' : ev), d ≤ L.length + 1 ∧ cr_now M d a b ∧ tp Z M L vr S.1 t' true b ∧ uap S.2.1 t' = uap S.2.1 t ∧
    ((uap S.2.1 t = .natCast 0 ∧ b = Z.2.2.1 1 ∧ M b = some cz_E) ∨
     (∃ v, v < S.1 ∧ uap S.2.1 t = .var v ∧ S.2.1 v = .var v ∧ b = vr v ∧ b ∈ L ∧ M b = some (cr_E none (S.2.2.2.2 v) (S.2.2.1 v) (S.2.2.2.1 v))) ∨
     ∃ x k r ty rs, uap S.2.1 t = uins k (uap S.2.1 x) (uap S.2.1 r) ∧ k < 10 ∧ M b = some (ce_E (nI k) (some ty) (some rs)) ∧ tp Z M L vr S.1 x false ty ∧ tp Z M L vr S.1 r true rs) := by
  obtain ⟨d, b, t', hd, -, hn, ht, he, hu⟩ := hC.now h
  refine ⟨d, b, t', hd, hn rfl, ht, he, ?_⟩
  have ht2 := ht
  generalize hm : true = m at ht
  unfold tp at ht
  split at ht
  case h_5 => obtain ⟨rfl, h1, h2⟩ := ht; exact Or.inl ⟨he.symm, h1, h2⟩
  case h_6 =>
    rename_i v
    obtain ⟨hv, rfl, hL, bd, lv, lk, lc, h2⟩ := ht
    rw [unext_cr h2] at hu
    subst hu
    obtain ⟨-, h3⟩ := hC.2.1 v hv
    rcases h3 with ⟨bd, h3, -⟩ | ⟨bd, h3, h4⟩
    · rw [h2] at h3; simp at h3
    · obtain ⟨rfl, rfl, rfl, rfl⟩ := cr_inj (Option.some.inj (h2.symm.trans h3))
      have h5 := h4.1 rfl
      exact Or.inr (Or.inl ⟨v, hv, by rw [← he]; exact h5, h5, rfl, hL, h3⟩)
  case h_7 =>
    rename_i x k r
    obtain ⟨ty, rs, hk, h2, hx, hr⟩ := ht
    exact Or.inr (Or.inr ⟨x, k, r, ty, rs, he.symm, hk, h2, hx, hr⟩)
  all_goals (first | (exact absurd hm (by decide)) | (exact ht.elim))
/-- only levels and marks have changed -/
def uL (M M' : mm_M) : Prop := ∀ (a : Nat) (e : va_E), M a = some e → M' a = some e ∨ (∃ bd lv lk lv' lk', e = co_E bd lv lk ∧ M' a = some (co_E bd lv' lk')) ∨ ∃ bd lv lk lv' lk' lc, e = cr_E bd lv lk lc ∧ M' a = some (cr_E bd lv' lk' lc)
theorem uL.K {M M' : mm_M} (h : uL M M') : uK M M' := by
  intro a e he
  rcases h a e he with k | ⟨bd, lv, lk, lv', lk', rfl, k⟩ | ⟨bd, lv, lk, lv', lk', lc, rfl, k⟩
  · exact Or.inl k
  · exact Or.inr (Or.inl ⟨_, _, _, _, _, _, rfl, k⟩)
  · exact Or.inr (Or.inr (Or.inl ⟨_, _, _, _, _, _, _, rfl, k⟩))
theorem uL.rf (M : mm_M) : uL M M := fun _ _ h => Or.inl h
theorem uL.trans {M N O : mm_M} (h1 : uL M N) (h2 : uL N O) : uL M O := by
  intro a e he
  rcases h1 a e he with k | ⟨bd, lv, lk, lv', lk', rfl, k⟩ | ⟨bd, lv, lk, lv', lk', lc, rfl, k⟩
  · exact h2 a e k
  · rcases h2 a _ k with k2 | ⟨bd2, lv2, lk2, lv3, lk3, e2, k2⟩ | ⟨bd2, lv2, lk2, lv3, lk3, lc3, e2, k2⟩
    · exact Or.inr (Or.inl ⟨_, _, _, _, _, rfl, k2⟩)
    · obtain ⟨rfl, -, -⟩ := co_inj e2; exact Or.inr (Or.inl ⟨_, _, _, _, _, rfl, k2⟩)
    · exfalso; simp at e2
  · rcases h2 a _ k with k2 | ⟨bd2, lv2, lk2, lv3, lk3, e2, k2⟩ | ⟨bd2, lv2, lk2, lv3, lk3, lc3, e2, k2⟩
    · exact Or.inr (Or.inr ⟨_, _, _, _, _, _, rfl, k2⟩)
    · exfalso; simp at e2
    · obtain ⟨rfl, -, -, rfl⟩ := cr_inj e2; exact Or.inr (Or.inr ⟨_, _, _, _, _, _, rfl, k2⟩)
theorem uL.O {M : mm_M} {a : Nat} {bd : Option Nat} {lv lv' : Int32} {lk lk' : Bool} (h : M a = some (co_E bd lv lk)) : uL M (mm_U M a (co_E bd lv' lk')) := by
  intro q e he
  by_cases hq : q = a
  · subst hq; rw [h] at he; cases he; exact Or.inr (Or.inl ⟨_, _, _, _, _, rfl, mm_U_eq⟩)
  · exact Or.inl ((mm_U_ne hq).trans he)
theorem uL.R {M : mm_M} {a : Nat} {bd : Option Nat} {lv lv' lc : Int32} {lk lk' : Bool} (h : M a = some (cr_E bd lv lk lc)) : uL M (mm_U M a (cr_E bd lv' lk' lc)) := by
  intro q e he
  by_cases hq : q = a
  · subst hq; rw [h] at he; cases he; exact Or.inr (Or.inr ⟨_, _, _, _, _, _, rfl, mm_U_eq⟩)
  · exact Or.inl ((mm_U_ne hq).trans he)
theorem uL.next {M M' : mm_M} (h : uL M M') {a : Nat} {e : va_E} (ha : M a = some e) : unext M' a = unext M a := by
  rcases h a e ha with k | ⟨bd, lv, lk, lv', lk', rfl, k⟩ | ⟨bd, lv, lk, lv', lk', lc, rfl, k⟩
  · unfold unext; rw [ha, k]
  · rw [unext_co ha, unext_co k]
  · rw [unext_cr ha, unext_cr k]
theorem tp.some {Z : mm_G} {M : mm_M} {L : List Nat} {vr : Nat → Nat} {n : Nat} {t : ev} {m : Bool} {a : Nat} (h : tp Z M L vr n t m a) : ∃ e, M a = some e := by
  unfold tp at h
  split at h
  · exact ⟨_, h.2.2⟩
  · obtain ⟨-, -, -, _, _, _, h⟩ := h; exact ⟨_, h⟩
  · obtain ⟨_, _, _, _, _, -, h, -⟩ := h; exact ⟨_, h⟩
  · obtain ⟨_, _, _, _, _, -, -, h, -⟩ := h; exact ⟨_, h⟩
  · exact ⟨_, h.2.2⟩
  · obtain ⟨-, -, -, _, _, _, _, h⟩ := h; exact ⟨_, h⟩
  · obtain ⟨_, _, -, h, -⟩ := h; exact ⟨_, h⟩
  · exact h.elim
theorem uL.phi {Z : mm_G} {M M' : mm_M} {L : List Nat} {vr : Nat → Nat} {n : Nat} (h : uL M M') (hL : ∀ a ∈ L, ∃ m t, tp Z M L vr n t m a) : uPhi M' L = uPhi M L := by
  unfold uPhi
  refine List.countP_congr (fun a ha => ?_)
  obtain ⟨m, t, h1⟩ := hL a ha
  obtain ⟨e, h2⟩ := h1.some
  rw [h.next h2]
/-- levels and marks have changed: all that holds holds with them -/
theorem uCI.light {Z : mm_G} {M M' : mm_M} {L : List Nat} {vr : Nat → Nat} {S S' : ts} (hC : uCI Z M L vr S) (hL : uL M M') (h1 : S'.1 = S.1) (h2 : S'.2.1 = S.2.1)
    (hv : ∀ v, v < S.1 → (∃ bd, M' (vr v) = some (co_E bd (S'.2.2.2.2 v) (S'.2.2.1 v)) ∧ (bd = none ↔ S.2.1 v = .var v)) ∨ ∃ bd, M' (vr v) = some (cr_E bd (S'.2.2.2.2 v) (S'.2.2.1 v) (S'.2.2.2.1 v)) ∧ (bd = none ↔ S.2.1 v = .var v)) : uCI Z M' L vr S' := by
  obtain ⟨⟨c1, c2, c3, c4, c5⟩, d1, d2, ⟨rk, d3⟩, d4, d5⟩ := hC
  have mono : ∀ t m a, tp Z M L vr S.1 t m a → tp Z M' L vr S.1 t m a := fun t m a h => tp.mono hL.K (fun _ h => h) (fun _ _ => rfl) (Nat.le_refl _) t m a h
  refine ⟨⟨by unfold ts_ok; rw [h2]; exact c1, c2, by rw [h1]; exact c3, by rw [h1, h2]; exact c4, by rw [h1, h2]; exact c5⟩, ?_, ?_, ⟨rk, ?_⟩, hL.K.atC d4 (by decide), hL.K.atC d5 (by decide)⟩
  · intro v h3
    rw [h1] at h3
    exact ⟨(d1 v h3).1, by rw [h2]; exact hv v h3⟩
  · intro a ha
    obtain ⟨m, t, h⟩ := d2 a ha
    rw [h1]; exact ⟨m, t, mono _ _ _ h⟩
  · intro a ha
    rw [hL.phi d2]
    refine ⟨(d3 a ha).1, fun o ho => ?_⟩
    obtain ⟨m, t, h⟩ := d2 a ha
    obtain ⟨e, he⟩ := h.some
    rw [hL.next he] at ho
    obtain ⟨e1, m2, t2, t3, e2, e3, e4⟩ := (d3 a ha).2 o ho
    rw [h1, h2]
    exact ⟨e1, m2, t2, t3, mono _ _ _ e2, mono _ _ _ e3, e4⟩
/-- one variable's level and mark -/
theorem uCI.setO {Z : mm_G} {M : mm_M} {L : List Nat} {vr : Nat → Nat} {S S' : ts} (hC : uCI Z M L vr S) {v : Nat} (hv : v < S.1) {bd : Option Nat} {lv lv' : Int32} {lk lk' : Bool} (hm : M (vr v) = some (co_E bd lv lk)) (h1 : S'.1 = S.1) (h2 : S'.2.1 = S.2.1) (h3 : S'.2.2.2.1 = S.2.2.2.1) (hl : ∀ u, u ≠ v → S'.2.2.2.2 u = S.2.2.2.2 u ∧ S'.2.2.1 u = S.2.2.1 u) (hl1 : S'.2.2.2.2 v = lv') (hl2 : S'.2.2.1 v = lk') : uCI Z (mm_U M (vr v) (co_E bd lv' lk')) L vr S' := by
  refine hC.light (uL.O hm) h1 h2 (fun u hu => ?_)
  by_cases huv : u = v
  · subst huv
    rcases (hC.2.1 u hu).2 with ⟨b2, e1, e2⟩ | ⟨b2, e1, -⟩
    · obtain ⟨rfl, -, -⟩ := co_inj (Option.some.inj (hm.symm.trans e1))
      exact Or.inl ⟨bd, by rw [hl1, hl2]; exact mm_U_eq, e2⟩
    · rw [hm] at e1; simp at e1
  · have hn : vr u ≠ vr v := fun h => huv (hC.1.2.2.1 u v hu hv h)
    rw [(hl u huv).1, (hl u huv).2, h3, mm_U_ne hn]
    exact (hC.2.1 u hu).2
theorem uCI.setR {Z : mm_G} {M : mm_M} {L : List Nat} {vr : Nat → Nat} {S S' : ts} (hC : uCI Z M L vr S) {v : Nat} (hv : v < S.1) {bd : Option Nat} {lv lv' lc : Int32} {lk lk' : Bool} (hm : M (vr v) = some (cr_E bd lv lk lc)) (h1 : S'.1 = S.1) (h2 : S'.2.1 = S.2.1) (h3 : S'.2.2.2.1 = S.2.2.2.1) (hl : ∀ u, u ≠ v → S'.2.2.2.2 u = S.2.2.2.2 u ∧ S'.2.2.1 u = S.2.2.1 u) (hl1 : S'.2.2.2.2 v = lv') (hl2 : S'.2.2.1 v = lk') : uCI Z (mm_U M (vr v) (cr_E bd lv' lk' lc)) L vr S' := by
  refine hC.light (uL.R hm) h1 h2 (fun u hu => ?_)
  by_cases huv : u = v
  · subst huv
    rcases (hC.2.1 u hu).2 with ⟨b2, e1, -⟩ | ⟨b2, e1, e2⟩
    · rw [hm] at e1; simp at e1
    · obtain ⟨rfl, -, -, rfl⟩ := cr_inj (Option.some.inj (hm.symm.trans e1))
      exact Or.inr ⟨bd, by rw [hl1, hl2, h3]; exact mm_U_eq, e2⟩
  · have hn : vr u ≠ vr v := fun h => huv (hC.1.2.2.1 u v hu hv h)
    rw [(hl u huv).1, (hl u huv).2, h3, mm_U_ne hn]
    exact (hC.2.1 u hu).2
