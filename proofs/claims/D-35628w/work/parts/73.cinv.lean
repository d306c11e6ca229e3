/-! ===== what holds while the component finds types ===== -/
set_option maxRecDepth 100000
/-- what a cell has become: bound, or same -/
def unext (M : mm_M) (a : Nat) : Option Nat := match M a with
  | some (.inr (9, [.ref o, _, _])) => some o
  | some (.inr (12, [.ref o, _, _, _])) => some o
  | some (.inr (10, [_, _, .ref o, _, _])) => some o
  | some (.inr (6, [_, _, .ref o, _, _])) => some o
  | _ => none
theorem unext_co {M : mm_M} {a : Nat} {bd : Option Nat} {lv : Int32} {lk : Bool} (h : M a = some (co_E bd lv lk)) : unext M a = bd := by unfold unext; rw [h]; cases bd <;> rfl
theorem unext_cr {M : mm_M} {a : Nat} {bd : Option Nat} {lv lc : Int32} {lk : Bool} (h : M a = some (cr_E bd lv lk lc)) : unext M a = bd := by unfold unext; rw [h]; cases bd <;> rfl
theorem unext_cf {M : mm_M} {a : Nat} {f g sm bq rn : Option Nat} (h : M a = some (cf_E f g sm bq rn)) : unext M a = sm := by unfold unext; rw [h]; cases sm <;> rfl
theorem unext_cb {M : mm_M} {a : Nat} {iv : Bool} {w sm bq rn : Option Nat} (h : M a = some (cb_E iv w sm bq rn)) : unext M a = sm := by unfold unext; rw [h]; cases sm <;> rfl
theorem unext_ce {M : mm_M} {a : Nat} {lb : Int32} {w sm : Option Nat} (h : M a = some (ce_E lb w sm)) : unext M a = none := by unfold unext; rw [h]; rfl
theorem unext_cn {M : mm_M} {a : Nat} (h : M a = some cn_E) : unext M a = none := by unfold unext; rw [h]; rfl
theorem unext_cz {M : mm_M} {a : Nat} (h : M a = some cz_E) : unext M a = none := by unfold unext; rw [h]; rfl
/-- how many have become nothing else yet -/
def uPhi (M : mm_M) (L : List Nat) : Nat := L.countP fun a => (unext M a).isNone
theorem uPhi_le (M : mm_M) (L : List Nat) : uPhi M L ≤ L.length := List.countP_le_length
/-- what holds: S is what the types at L are -/
def uCI (Z : mm_G) (M : mm_M) (L : List Nat) (vr : Nat → Nat) (S : ts) : Prop :=
  (ts_ok S ∧ L.Nodup ∧ (∀ u v, u < S.1 → v < S.1 → vr u = vr v → u = v) ∧ (∀ v, S.1 ≤ v → S.2.1 v = .var v) ∧ ∀ v, v < S.1 → ∀ u, uoc u (S.2.1 v) = true → u < S.1) ∧
  (∀ v, v < S.1 → vr v ∈ L ∧ ((∃ bd, M (vr v) = some (co_E bd (S.2.2.2.2 v) (S.2.2.1 v)) ∧ (bd = none ↔ S.2.1 v = .var v)) ∨ ∃ bd, M (vr v) = some (cr_E bd (S.2.2.2.2 v) (S.2.2.1 v) (S.2.2.2.1 v)) ∧ (bd = none ↔ S.2.1 v = .var v))) ∧
  (∀ a ∈ L, ∃ m t, tp Z M L vr S.1 t m a) ∧
  (∃ rk : Nat → Nat, ∀ a ∈ L, rk a + uPhi M L ≤ L.length ∧ ∀ o, unext M a = some o → (o ∈ L → rk o < rk a) ∧ ∃ m t t', tp Z M L vr S.1 t m a ∧ tp Z M L vr S.1 t' m o ∧ uap S.2.1 t = uap S.2.1 t') ∧
  M (Z.2.2.1 0) = some cn_E ∧ M (Z.2.2.1 1) = some cz_E
theorem tp.isN {Z : mm_G} {M : mm_M} {L : List Nat} {vr : Nat → Nat} {n : Nat} {t : ev} {m : Bool} {a : Nat}  (h1 : M a = some (cn_E)) (h : tp Z M L vr n t m a) : t = .natCast 0 ∧ m = false := by
  unfold tp at h
  split at h
  · obtain ⟨rfl, -, h2⟩ := h; exact ⟨rfl, rfl⟩
  · obtain ⟨h2v, h2a, -, bd2, lv2, lk2, h2⟩ := h; rw [h1] at h2; simp at h2
  · obtain ⟨f2, g2, sm2, bq2, rn2, -, h2, hf2, hg2⟩ := h; rw [h1] at h2; simp at h2
  · obtain ⟨iv2, w2, sm2, bq2, rn2, -, hk2, h2, hw2⟩ := h; rw [h1] at h2; simp at h2
  · obtain ⟨-, -, h2⟩ := h; rw [h1] at h2; simp at h2
  · obtain ⟨h2v, h2a, -, bd2, lv2, lk2, lc2, h2⟩ := h; rw [h1] at h2; simp at h2
  · obtain ⟨ty2, rs2, hk2, h2, hx2, hr2⟩ := h; rw [h1] at h2; simp at h2
  · exact h.elim
theorem tp.isO {Z : mm_G} {M : mm_M} {L : List Nat} {vr : Nat → Nat} {n : Nat} {t : ev} {m : Bool} {a : Nat} {bd : Option Nat} {lv : Int32} {lk : Bool} (h1 : M a = some (co_E bd lv lk)) (h : tp Z M L vr n t m a) : ∃ v, t = .var v ∧ m = false ∧ v < n ∧ a = vr v := by
  unfold tp at h
  split at h
  · obtain ⟨-, -, h2⟩ := h; rw [h1] at h2; simp at h2
  · obtain ⟨h2v, h2a, -⟩ := h; exact ⟨_, rfl, rfl, h2v, h2a⟩
  · obtain ⟨f2, g2, sm2, bq2, rn2, -, h2, hf2, hg2⟩ := h; rw [h1] at h2; simp at h2
  · obtain ⟨iv2, w2, sm2, bq2, rn2, -, hk2, h2, hw2⟩ := h; rw [h1] at h2; simp at h2
  · obtain ⟨-, -, h2⟩ := h; rw [h1] at h2; simp at h2
  · obtain ⟨h2v, h2a, -, bd2, lv2, lk2, lc2, h2⟩ := h; rw [h1] at h2; simp at h2
  · obtain ⟨ty2, rs2, hk2, h2, hx2, hr2⟩ := h; rw [h1] at h2; simp at h2
  · exact h.elim
theorem tp.isF {Z : mm_G} {M : mm_M} {L : List Nat} {vr : Nat → Nat} {n : Nat} {t : ev} {m : Bool} {a : Nat} {f g : Nat} {sm bq rn : Option Nat} (h1 : M a = some (cf_E (some f) (some g) sm bq rn)) (h : tp Z M L vr n t m a) : ∃ x y, t = .sub x y ∧ m = false ∧ tp Z M L vr n x false f ∧ tp Z M L vr n y false g := by
  unfold tp at h
  split at h
  · obtain ⟨-, -, h2⟩ := h; rw [h1] at h2; simp at h2
  · obtain ⟨h2v, h2a, -, bd2, lv2, lk2, h2⟩ := h; rw [h1] at h2; simp at h2
  · obtain ⟨f2, g2, sm2, bq2, rn2, -, h2, hf2, hg2⟩ := h
    rw [h1] at h2
    obtain ⟨e1, e2, -⟩ := cf_inj (Option.some.inj h2)
    cases e1; cases e2
    exact ⟨_, _, rfl, rfl, hf2, hg2⟩
  · obtain ⟨iv2, w2, sm2, bq2, rn2, -, hk2, h2, hw2⟩ := h; rw [h1] at h2; simp at h2
  · obtain ⟨-, -, h2⟩ := h; rw [h1] at h2; simp at h2
  · obtain ⟨h2v, h2a, -, bd2, lv2, lk2, lc2, h2⟩ := h; rw [h1] at h2; simp at h2
  · obtain ⟨ty2, rs2, hk2, h2, hx2, hr2⟩ := h; rw [h1] at h2; simp at h2
  · exact h.elim
theorem tp.isB {Z : mm_G} {M : mm_M} {L : List Nat} {vr : Nat → Nat} {n : Nat} {t : ev} {m : Bool} {a : Nat} {iv : Bool} {w : Nat} {sm bq rn : Option Nat} (h1 : M a = some (cb_E iv (some w) sm bq rn)) (h : tp Z M L vr n t m a) : ∃ r, t = .pow r iv.toNat ∧ m = false ∧ tp Z M L vr n r true w := by
  unfold tp at h
  split at h
  · obtain ⟨-, -, h2⟩ := h; rw [h1] at h2; simp at h2
  · obtain ⟨h2v, h2a, -, bd2, lv2, lk2, h2⟩ := h; rw [h1] at h2; simp at h2
  · obtain ⟨f2, g2, sm2, bq2, rn2, -, h2, hf2, hg2⟩ := h; rw [h1] at h2; simp at h2
  · obtain ⟨iv2, w2, sm2, bq2, rn2, -, hk2, h2, hw2⟩ := h
    rw [h1] at h2
    obtain ⟨e1, e2, -⟩ := cb_inj (Option.some.inj h2)
    cases e2
    exact ⟨_, by rw [hk2, e1], rfl, hw2⟩
  · obtain ⟨-, -, h2⟩ := h; rw [h1] at h2; simp at h2
  · obtain ⟨h2v, h2a, -, bd2, lv2, lk2, lc2, h2⟩ := h; rw [h1] at h2; simp at h2
  · obtain ⟨ty2, rs2, hk2, h2, hx2, hr2⟩ := h; rw [h1] at h2; simp at h2
  · exact h.elim
theorem tp.isZ {Z : mm_G} {M : mm_M} {L : List Nat} {vr : Nat → Nat} {n : Nat} {t : ev} {m : Bool} {a : Nat}  (h1 : M a = some (cz_E)) (h : tp Z M L vr n t m a) : t = .natCast 0 ∧ m = true := by
  unfold tp at h
  split at h
  · obtain ⟨-, -, h2⟩ := h; rw [h1] at h2; simp at h2
  · obtain ⟨h2v, h2a, -, bd2, lv2, lk2, h2⟩ := h; rw [h1] at h2; simp at h2
  · obtain ⟨f2, g2, sm2, bq2, rn2, -, h2, hf2, hg2⟩ := h; rw [h1] at h2; simp at h2
  · obtain ⟨iv2, w2, sm2, bq2, rn2, -, hk2, h2, hw2⟩ := h; rw [h1] at h2; simp at h2
  · obtain ⟨rfl, -, h2⟩ := h; exact ⟨rfl, rfl⟩
  · obtain ⟨h2v, h2a, -, bd2, lv2, lk2, lc2, h2⟩ := h; rw [h1] at h2; simp at h2
  · obtain ⟨ty2, rs2, hk2, h2, hx2, hr2⟩ := h; rw [h1] at h2; simp at h2
  · exact h.elim
theorem tp.isR {Z : mm_G} {M : mm_M} {L : List Nat} {vr : Nat → Nat} {n : Nat} {t : ev} {m : Bool} {a : Nat} {bd : Option Nat} {lv lc : Int32} {lk : Bool} (h1 : M a = some (cr_E bd lv lk lc)) (h : tp Z M L vr n t m a) : ∃ v, t = .var v ∧ m = true ∧ v < n ∧ a = vr v := by
  unfold tp at h
  split at h
  · obtain ⟨-, -, h2⟩ := h; rw [h1] at h2; simp at h2
  · obtain ⟨h2v, h2a, -, bd2, lv2, lk2, h2⟩ := h; rw [h1] at h2; simp at h2
  · obtain ⟨f2, g2, sm2, bq2, rn2, -, h2, hf2, hg2⟩ := h; rw [h1] at h2; simp at h2
  · obtain ⟨iv2, w2, sm2, bq2, rn2, -, hk2, h2, hw2⟩ := h; rw [h1] at h2; simp at h2
  · obtain ⟨-, -, h2⟩ := h; rw [h1] at h2; simp at h2
  · obtain ⟨h2v, h2a, -⟩ := h; exact ⟨_, rfl, rfl, h2v, h2a⟩
  · obtain ⟨ty2, rs2, hk2, h2, hx2, hr2⟩ := h; rw [h1] at h2; simp at h2
  · exact h.elim
theorem tp.isC {Z : mm_G} {M : mm_M} {L : List Nat} {vr : Nat → Nat} {n : Nat} {t : ev} {m : Bool} {a : Nat} {k : Nat} {ty rs : Nat} (hk : k < 10) (h1 : M a = some (ce_E (nI k) (some ty) (some rs))) (h : tp Z M L vr n t m a) : ∃ x r, t = .add (.pow x k) r ∧ m = true ∧ tp Z M L vr n x false ty ∧ tp Z M L vr n r true rs := by
  unfold tp at h
  split at h
  · obtain ⟨-, -, h2⟩ := h; rw [h1] at h2; simp at h2
  · obtain ⟨h2v, h2a, -, bd2, lv2, lk2, h2⟩ := h; rw [h1] at h2; simp at h2
  · obtain ⟨f2, g2, sm2, bq2, rn2, -, h2, hf2, hg2⟩ := h; rw [h1] at h2; simp at h2
  · obtain ⟨iv2, w2, sm2, bq2, rn2, -, hk2, h2, hw2⟩ := h; rw [h1] at h2; simp at h2
  · obtain ⟨-, -, h2⟩ := h; rw [h1] at h2; simp at h2
  · obtain ⟨h2v, h2a, -, bd2, lv2, lk2, lc2, h2⟩ := h; rw [h1] at h2; simp at h2
  · obtain ⟨ty2, rs2, hk2, h2, hx2, hr2⟩ := h
    rw [h1] at h2
    obtain ⟨e1, e2, e3⟩ := ce_inj (Option.some.inj h2)
    cases e2; cases e3
    have e4 := (nI_eq (by omega) (by omega)).1 e1
    subst e4
    exact ⟨_, _, rfl, rfl, hx2, hr2⟩
  · exact h.elim
/-- a cell is one type alone -/
theorem tp.uniq {Z : mm_G} {M : mm_M} {L : List Nat} {vr : Nat → Nat} {n : Nat} (hI : ∀ u v, u < n → v < n → vr u = vr v → u = v) (t t' : ev) (m m' : Bool) (a : Nat) (h : tp Z M L vr n t m a) (h' : tp Z M L vr n t' m' a) : t = t' ∧ m = m' := by
  have key : ∀ (N : Nat) (t t' : ev) (m m' : Bool) (a : Nat), SizeOf.sizeOf t < N → tp Z M L vr n t m a → tp Z M L vr n t' m' a → t = t' ∧ m = m' := by
    intro N
    induction N with
    | zero => intro t t' m m' a h; omega
    | succ N ih =>
      intro t t' m m' a hz h h'
      unfold tp at h
      split at h
      · obtain ⟨rfl, -, h1⟩ := h; obtain ⟨rfl, rfl⟩ := h'.isN h1; exact ⟨rfl, rfl⟩
      · obtain ⟨hv, ha, -, bd, lv, lk, h1⟩ := h; obtain ⟨v, rfl, rfl, h3, h4⟩ := h'.isO h1; exact ⟨by rw [hI _ _ hv h3 (ha.symm.trans h4)], rfl⟩
      · rename_i x y
        obtain ⟨f, g, sm, bq, rn, -, h1, hf, hg⟩ := h
        obtain ⟨x2, y2, rfl, rfl, hx2, hy2⟩ := h'.isF h1
        have z1 : SizeOf.sizeOf (Lean.Grind.CommRing.Expr.sub x y) = 1 + SizeOf.sizeOf x + SizeOf.sizeOf y := rfl
        rw [(ih x x2 _ _ _ (by omega) hf hx2).1, (ih y y2 _ _ _ (by omega) hg hy2).1]; exact ⟨rfl, rfl⟩
      · rename_i r k
        obtain ⟨iv, w, sm, bq, rn, -, hk, h1, hw⟩ := h
        obtain ⟨r2, rfl, rfl, hr2⟩ := h'.isB h1
        have z1 : SizeOf.sizeOf (Lean.Grind.CommRing.Expr.pow r k) = 1 + SizeOf.sizeOf r + SizeOf.sizeOf k := rfl
        rw [(ih r r2 _ _ _ (by omega) hw hr2).1, hk]; exact ⟨rfl, rfl⟩
      · obtain ⟨rfl, -, h1⟩ := h; obtain ⟨rfl, rfl⟩ := h'.isZ h1; exact ⟨rfl, rfl⟩
      · obtain ⟨hv, ha, -, bd, lv, lk, lc, h1⟩ := h; obtain ⟨v, rfl, rfl, h3, h4⟩ := h'.isR h1; exact ⟨by rw [hI _ _ hv h3 (ha.symm.trans h4)], rfl⟩
      · rename_i x k r
        obtain ⟨ty, rs, hk, h1, hx, hr⟩ := h
        obtain ⟨x2, r2, rfl, rfl, hx2, hr2⟩ := h'.isC hk h1
        have z1 : SizeOf.sizeOf (Lean.Grind.CommRing.Expr.add (.pow x k) r) = 1 + (1 + SizeOf.sizeOf x + SizeOf.sizeOf k) + SizeOf.sizeOf r := rfl
        rw [(ih x x2 _ _ _ (by omega) hx hx2).1, (ih r r2 _ _ _ (by omega) hr hr2).1]; exact ⟨rfl, rfl⟩
      · exact h.elim
  exact key _ t t' m m' a (Nat.lt_succ_self _) h h'
/-- where a cell of a type's class stands -/
theorem tp.ct {Z : mm_G} {M : mm_M} {L : List Nat} {vr : Nat → Nat} {n : Nat} {t : ev} {a : Nat} (h : tp Z M L vr n t false a) : ct_at M a (unext M a) := by
  unfold tp at h
  split at h
  · obtain ⟨-, -, h2⟩ := h; rw [unext_cn h2]; exact Or.inr (Or.inr (Or.inr ⟨rfl, h2⟩))
  · obtain ⟨-, -, -, bd, lv, lk, h2⟩ := h; rw [unext_co h2]; exact Or.inl ⟨_, _, h2⟩
  · obtain ⟨f, g, sm, bq, rn, -, h2, -⟩ := h; rw [unext_cf h2]; exact Or.inr (Or.inl ⟨_, _, _, _, h2⟩)
  · obtain ⟨iv, w, sm, bq, rn, -, -, h2, -⟩ := h; rw [unext_cb h2]; exact Or.inr (Or.inr (Or.inl ⟨_, _, _, _, h2⟩))
  all_goals (first | (rename_i h9; cases h9; done) | (exact h.elim) | (simp at *; done))
theorem tp.cr {Z : mm_G} {M : mm_M} {L : List Nat} {vr : Nat → Nat} {n : Nat} {t : ev} {a : Nat} (h : tp Z M L vr n t true a) : cr_at M a (unext M a) := by
  unfold tp at h
  split at h
  case h_5 => obtain ⟨-, -, h2⟩ := h; rw [unext_cz h2]; exact Or.inr (Or.inr ⟨rfl, h2⟩)
  case h_6 => obtain ⟨-, -, -, bd, lv, lk, lc, h2⟩ := h; rw [unext_cr h2]; exact Or.inl ⟨_, _, _, h2⟩
  case h_7 => obtain ⟨ty, rs, hk, h2, -⟩ := h; rw [unext_ce h2]; exact Or.inr (Or.inl ⟨rfl, _, _, _, h2⟩)
  all_goals (first | (rename_i h9; cases h9; done) | (exact h.elim) | (simp at *; done))
/-- only what is told off goes on -/
theorem tp.inL {Z : mm_G} {M : mm_M} {L : List Nat} {vr : Nat → Nat} {n : Nat} {t : ev} {m : Bool} {a o : Nat} (h : tp Z M L vr n t m a) (ho : unext M a = some o) : a ∈ L := by
  unfold tp at h
  split at h
  · obtain ⟨-, -, h2⟩ := h; rw [unext_cn h2] at ho; cases ho
  · exact h.2.2.1
  · obtain ⟨f, g, sm, bq, rn, hL, -⟩ := h; exact hL
  · obtain ⟨iv, w, sm, bq, rn, hL, -⟩ := h; exact hL
  · obtain ⟨-, -, h2⟩ := h; rw [unext_cz h2] at ho; cases ho
  · exact h.2.2.1
  · obtain ⟨ty, rs, hk, h2, -⟩ := h; rw [unext_ce h2] at ho; cases ho
  · exact h.elim
/-- now(): where it ends, and that it is the same type -/
theorem uCI.now {Z : mm_G} {M : mm_M} {L : List Nat} {vr : Nat → Nat} {S : ts} (hC : uCI Z M L vr S) {t : ev} {m : Bool} {a : Nat} (h : tp Z M L vr S.1 t m a) : ∃ (d b : Nat) (t' : ev), d ≤ L.length + 1 ∧ (m = false → ct_now M d a b) ∧ (m = true → cr_now M d a b) ∧ tp Z M L vr S.1 t' m b ∧ uap S.2.1 t' = uap S.2.1 t ∧ unext M b = none := by
  obtain ⟨⟨-, -, hI, -⟩, -, -, ⟨rk, hrk⟩, -⟩ := hC
  have key : ∀ (N : Nat) {t : ev} {m : Bool} {a : Nat}, tp Z M L vr S.1 t m a → (a ∈ L → rk a ≤ N) → ∃ (d b : Nat) (t' : ev), d ≤ N + 1 ∧ (m = false → ct_now M d a b) ∧ (m = true → cr_now M d a b) ∧ tp Z M L vr S.1 t' m b ∧ uap S.2.1 t' = uap S.2.1 t ∧ unext M b = none := by
    intro N
    induction N with
    | zero =>
      intro t m a h hr
      cases ho : unext M a with
      | none => exact ⟨0, a, t, Nat.zero_le _, fun e => ⟨rfl, by subst e; have := h.ct; rwa [ho] at this⟩, fun e => ⟨rfl, by subst e; have := h.cr; rwa [ho] at this⟩, h, rfl, ho⟩
      | some o =>
        have hL := h.inL ho
        obtain ⟨hlt, m2, t2, t3, h2, h3, e3⟩ := (hrk a hL).2 o ho
        obtain ⟨e1, e2⟩ := tp.uniq hI _ _ _ _ _ h h2
        subst e1; subst e2
        have hn : unext M o = none := by
          cases hoo : unext M o with
          | none => rfl
          | some q => have := hlt (h3.inL hoo); have := hr hL; omega
        exact ⟨1, o, t3, Nat.le_refl _, fun e => ⟨o, by subst e; have := h.ct; rwa [ho] at this, rfl, by subst e; have := h3.ct; rwa [hn] at this⟩, fun e => ⟨o, by subst e; have := h.cr; rwa [ho] at this, rfl, by subst e; have := h3.cr; rwa [hn] at this⟩, h3, e3.symm, hn⟩
    | succ N ih =>
      intro t m a h hr
      cases ho : unext M a with
      | none => exact ⟨0, a, t, Nat.zero_le _, fun e => ⟨rfl, by subst e; have := h.ct; rwa [ho] at this⟩, fun e => ⟨rfl, by subst e; have := h.cr; rwa [ho] at this⟩, h, rfl, ho⟩
      | some o =>
        have hL := h.inL ho
        obtain ⟨hlt, m2, t2, t3, h2, h3, e3⟩ := (hrk a hL).2 o ho
        obtain ⟨e1, e2⟩ := tp.uniq hI _ _ _ _ _ h h2
        subst e1; subst e2
        obtain ⟨d, b, t', hd, hc1, hc2, ht, he, hn⟩ := ih h3 (fun hoL => by have := hlt hoL; have := hr hL; omega)
        exact ⟨d + 1, b, t', by omega, fun e => ⟨o, by subst e; have := h.ct; rwa [ho] at this, hc1 e⟩, fun e => ⟨o, by subst e; have := h.cr; rwa [ho] at this, hc2 e⟩, ht, he.trans e3.symm, hn⟩
  exact key L.length h (fun hL => by have := (hrk a hL).1; omega)
