/-! ===== what unite does: the words ===== -/
set_option maxRecDepth 100000
/-- a variable's cell -/
def uVar (M : mm_M) (z : Nat) : Prop := (∃ bd lv lk, M z = some (co_E bd lv lk)) ∨ ∃ bd lv lk lc, M z = some (cr_E bd lv lk lc)
theorem uVar.back {M M' : mm_M} (hK : uK M M') {z : Nat} (hz : M z ≠ none) (h : uVar M' z) : uVar M z := by
  cases he : M z with
  | none => exact absurd he hz
  | some e =>
    rcases hK z e he with k | ⟨bd2, lv2, lk2, bd3, lv3, lk3, e2, k⟩ | ⟨bd2, lv2, lk2, bd3, lv3, lk3, lc3, e2, k⟩ | ⟨f2, g2, sm2, bq2, rn2, sm3, bq3, rn3, e2, k, kby⟩ | ⟨iv2, w2, sm2, bq2, rn2, sm3, bq3, rn3, e2, k, kby⟩
    · rcases h with ⟨bd, lv, lk, h⟩ | ⟨bd, lv, lk, lc, h⟩
      · exact Or.inl ⟨bd, lv, lk, by rw [he, ← k]; exact h⟩
      · exact Or.inr ⟨bd, lv, lk, lc, by rw [he, ← k]; exact h⟩
    · exact Or.inl ⟨_, _, _, by rw [he, e2]⟩
    · exact Or.inr ⟨_, _, _, _, by rw [he, e2]⟩
    · rcases h with ⟨bd, lv, lk, h⟩ | ⟨bd, lv, lk, lc, h⟩ <;> rw [k] at h <;> simp at h
    · rcases h with ⟨bd, lv, lk, h⟩ | ⟨bd, lv, lk, lc, h⟩ <;> rw [k] at h <;> simp at h
theorem uCI.isVar {Z : mm_G} {M : mm_M} {L : List Nat} {vr : Nat → Nat} {S : ts} (hC : uCI Z M L vr S) {u : Nat} (hu : u < S.1) : uVar M (vr u) := by
  rcases (hC.2.1 u hu).2 with ⟨bd, h, -⟩ | ⟨bd, h, -⟩
  · exact Or.inl ⟨_, _, _, h⟩
  · exact Or.inr ⟨_, _, _, _, h⟩
/-- unite is done with this; c: what is not paid yet -/
def uUP (Z : mm_G) (M : mm_M) (L : List Nat) (vr : Nat → Nat) (S : ts) (x : ev) (c : Nat) (r : te) : Option Value → mm_M → Nat → Nat → Prop := fun v9 M' n9 k9 => v9 = none ∧ ∃ (S' : ts) (L' : List Nat) (vr' : Nat → Nat), r = .inr S' ∧ uK M M' ∧ uCI Z M' L' vr' S' ∧ (∀ a ∈ L, a ∈ L') ∧ (∀ v, v < S.1 → vr' v = vr v) ∧ S.1 ≤ S'.1 ∧
  n9 + 27 * uPhi M' L' ≤ 27 * uPhi M L + 9 * c ∧ k9 + 70 * uPhi M' L' ≤ 70 * uPhi M L + 55 * c ∧ L'.length + uPhi M' L' ≤ L.length + uPhi M L ∧ uPhi M' L' ≤ uPhi M L ∧ uNw M' L L' ∧
  ∀ z, M z ≠ none → unext M z = none → unext M' z ≠ none → uVar M z ∨ ∃ t, tp Z M' L' vr' S'.1 t false z ∧ ∀ s, SizeOf.sizeOf (uap s (uap S'.2.1 t)) ≤ SizeOf.sizeOf (uap s (uap S'.2.1 x))
/-- x lies d deep in some type -/
def uDeep (Z : mm_G) (M : mm_M) (L : List Nat) (vr : Nat → Nat) (S : ts) (x : ev) (d : Nat) : Prop := ∃ (R : ev) (mR : Bool) (aR : Nat), tp Z M L vr S.1 R mR aR ∧ ∀ s, uh (uap s (uap S.2.1 x)) + d ≤ uh (uap s (uap S.2.1 R))
theorem uDeep.of {Z : mm_G} {M : mm_M} {L : List Nat} {vr : Nat → Nat} {S : ts} {x : ev} {m : Bool} {a : Nat} (h : tp Z M L vr S.1 x m a) : uDeep Z M L vr S x 0 := ⟨x, m, a, h, fun _ => Nat.le_refl _⟩
theorem uDeep.le {Z : mm_G} {M : mm_M} {L : List Nat} {vr : Nat → Nat} {S : ts} {x : ev} {d : Nat} (h : uDeep Z M L vr S x d) (hC : uCI Z M L vr S) {b : Nat} (hB : uB Z M L vr S b) : uh (uap S.2.1 x) + d ≤ 2 * b + 1 := by
  obtain ⟨R, mR, aR, h1, h2⟩ := h
  have h3 := h2 .var
  have e1 : uap .var (uap S.2.1 x) = uap S.2.1 x := hC.1.1.can x
  have e2 : uap .var (uap S.2.1 R) = uap S.2.1 R := hC.1.1.can R
  rw [e1, e2] at h3
  have h4 := hC.heightB hB h1
  have h5 : mR.toNat ≤ 1 := Bool.toNat_le mR
  omega
theorem uDeep.mono {Z : mm_G} {M M' : mm_M} {L L' : List Nat} {vr vr' : Nat → Nat} {S S' : ts} {x : ev} {d : Nat} (h : uDeep Z M L vr S x d) (hK : uK M M') (hL : ∀ a ∈ L, a ∈ L') (hv : ∀ v, v < S.1 → vr' v = vr v) (hn : S.1 ≤ S'.1) (hle : ts_le S S') : uDeep Z M' L' vr' S' x d := by
  obtain ⟨R, mR, aR, h1, h2⟩ := h
  refine ⟨R, mR, aR, tp.mono hK hL hv hn _ _ _ h1, fun s => ?_⟩
  have h3 := h2 (fun v => uap s (S'.2.1 v))
  rw [← uap_ap, ← uap_ap, hle x, hle R] at h3
  exact h3
theorem uDeep.to {Z : mm_G} {M : mm_M} {L : List Nat} {vr : Nat → Nat} {S : ts} {x y : ev} {d k : Nat} (h : uDeep Z M L vr S x d) (hk : ∀ s, uh (uap s (uap S.2.1 y)) + k ≤ uh (uap s (uap S.2.1 x))) : uDeep Z M L vr S y (d + k) := by
  obtain ⟨R, mR, aR, h1, h2⟩ := h
  exact ⟨R, mR, aR, h1, fun s => by have := h2 s; have := hk s; omega⟩
theorem uget_low {s : Nat → ev} {l : Nat} {t : ev} : ∀ {r : ev}, uget r l = some t → uh (uap s t) + 1 ≤ uh (uap s r) ∧ SizeOf.sizeOf (uap s t) < SizeOf.sizeOf (uap s r) := by
  intro r h
  match r, h with
  | .add (.pow u k) r, h =>
    simp only [uget] at h
    simp only [uap, uins_h, uins_size]
    by_cases e : l = k
    · rw [if_pos e] at h; cases h; omega
    · rw [if_neg e] at h
      have h1 := uget_low (s := s) h
      omega
/-- what a call of unite needs and does, n deep at most -/
def uUn (l : Launch) (Z : mm_G) (n : Nat) : Prop := ∀ (M : mm_M) (L : List Nat) (vr : Nat → Nat) (S : ts) (kd : Nat → Bool) (x y : ev) (ax ay : Nat) (r : te) (Hh Lm d D b : Nat), al_0 Z M → uCI Z M L vr S → usg S kd → tp Z M L vr S.1 x false ax → tp Z M L vr S.1 y false ay → uwf (uG S kd) false (uap S.2.1 x) → uwf (uG S kd) false (uap S.2.1 y) →
  tU n S x y = some r → uB Z M L vr S b → 2 * b + 3 ≤ Hh → L.length + uPhi M L ≤ Lm → D + d = Hh → uDeep Z M L vr S x d →
  mm_D l Z yX1_unite (ws_ yX1_unite cX1_unite 10 none) { frames := Hh + Lm + 30 + D, cells := 27 * uPhi M L + 9 * D + 40, slots := 70 * uPhi M L + 55 * D + 120, locals := 25 * Hh + 20 * Lm + 1000 + 30 * D } [.ref ax, .ref ay] M (uUP Z M L vr S x 0 r) (fun E q M' => ∃ er, r = .inl er ∧ uX M er E q M')
