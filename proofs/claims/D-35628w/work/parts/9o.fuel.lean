/-! ===== more fuel changes nothing ===== -/
set_option maxRecDepth 100000
theorem to_b_mono {a a' : Option te} {f g : ts → Option te} (h1 : ∀ r, a = some r → a' = some r) (h2 : ∀ S r, f S = some r → g S = some r) {r : te} (h : to_b a f = some r) : to_b a' g = some r := by
  cases a with
  | none => cases h
  | some t =>
    rw [h1 t rfl]
    cases t with
    | inl e => exact h
    | inr S => exact h2 S r h
theorem tLabs_mono {U V : ts → ev → ev → Option te} (hUV : ∀ S x y r, U S x y = some r → V S x y = some r) {f1 f2 : Nat → Option ev} {b : Int32} : ∀ (k : Nat) (S : ts) (r : te), tLabs U f1 f2 b k S = some r → tLabs V f1 f2 b k S = some r := by
  intro k
  induction k with
  | zero => intro S r h; exact h
  | succ k ih =>
    intro S r h
    unfold tLabs at h ⊢
    by_cases hb : uhs b (9 - k) = true
    · rw [if_pos hb] at h ⊢
      cases h1 : f1 (9 - k) with
      | none => rw [h1] at h; cases h
      | some x =>
        cases h2 : f2 (9 - k) with
        | none => rw [h1, h2] at h; cases h
        | some y =>
          rw [h1, h2] at h
          exact to_b_mono (hUV S x y) ih h
    · rw [if_neg hb] at h ⊢
      exact ih S r h
theorem tRows_mono {U V : ts → ev → ev → Option te} (hUV : ∀ S x y r, U S x y = some r → V S x y = some r) {S : ts} {r1 r2 : ev} {r : te} (h : tRows U S r1 r2 = some r) : tRows V S r1 r2 = some r := by
  unfold tRows at h ⊢
  dsimp only at h ⊢
  split at h
  · rename_i h1; rw [if_pos h1]; exact h
  · rename_i h1
    rw [if_neg h1]
    split at h
    · rename_i h2; rw [if_pos h2]; exact h
    · rename_i h2
      rw [if_neg h2]
      exact to_b_mono (fun _ h9 => h9) (fun S r h9 => tLabs_mono hUV 10 S r h9) h
theorem tU_mono : ∀ (n : Nat) (S : ts) (x y : ev) (r : te), tU n S x y = some r → tU (n + 1) S x y = some r := by
  intro n
  induction n with
  | zero => intro S x y r h; cases h
  | succ n ih =>
    intro S x y r h
    unfold tU at h ⊢
    generalize uap S.2.1 x = A at h ⊢
    generalize uap S.2.1 y = B at h ⊢
    cases A <;> cases B <;> dsimp only at h ⊢ <;> first
      | exact h
      | exact to_b_mono (ih _ _ _) (fun S r h9 => ih S _ _ r h9) h
      | (split at h
         · rename_i h1; rw [if_pos h1]; exact tRows_mono ih h
         · rename_i h1; rw [if_neg h1]; exact h)
/-- is the variable v -/
def isv (v : Nat) : ev → Bool
  | .var u => u == v
  | _ => false
theorem isv_iff {v : Nat} {t : ev} : isv v t = true ↔ t = .var v := by
  cases t <;> simp [isv]
/-- the variables that are not put -/
def unb (S : ts) : Nat := (List.range S.1).countP fun v => isv v (S.2.1 v)
theorem unb_put {S : ts} (hok : ts_ok S) {v : Nat} {t : ev} (hv : v < S.1) (hs : S.2.1 v = .var v) (hoc : uoc v (uap S.2.1 t) = false) : unb (ts_put S v (uap S.2.1 t)) + 1 = unb S := by
  refine countP_flip (a := v) (List.range S.1) List.nodup_range (List.mem_range.2 hv) (isv_iff.2 hs) ?_ (fun x _ hx => ?_)
  · show isv v (uap (uon v (uap S.2.1 t)) (S.2.1 v)) = false
    cases h : isv v (uap (uon v (uap S.2.1 t)) (S.2.1 v)) with
    | false => rfl
    | true =>
      have h1 := isv_iff.1 h
      rw [hs] at h1
      have h2 : uap S.2.1 t = .var v := by
        have h3 : uap (uon v (uap S.2.1 t)) (.var v) = uap S.2.1 t := if_pos rfl
        rw [← h3]; exact h1
      rw [h2] at hoc; simp [uoc] at hoc
  · show isv x (S.2.1 x) = isv x (uap (uon v (uap S.2.1 t)) (S.2.1 x))
    rw [Bool.eq_iff_iff, isv_iff, isv_iff]
    constructor
    · intro h9
      rw [h9]
      show uon v _ x = .var x
      unfold uon; rw [if_neg hx]
    · intro h9
      obtain ⟨y, hsw, h9⟩ := uap_eq_var h9
      unfold uon at h9
      by_cases hy : y = v
      · rw [if_pos hy] at h9
        exact hok.var (t := t) (by rw [h9]; simp [uoc])
      · rw [if_neg hy] at h9; rw [hsw]; exact h9
theorem unb_cg {S S' : ts} (h1 : S'.1 = S.1) (h2 : S'.2.1 = S.2.1) : unb S' = unb S := by unfold unb; rw [h1, h2]
theorem unb_new {S : ts} (h : S.2.1 S.1 = .var S.1) {x : Int32} {k : Bool} {c : Int32} : unb (ts_new S x k c) = unb S + 1 := by
  show (List.range (S.1 + 1)).countP (fun v => isv v (S.2.1 v)) = _
  rw [List.range_succ, List.countP_append, List.countP_cons_of_pos (p := fun v => isv v (S.2.1 v)) (a := S.1) (isv_iff.2 h)]
  rfl
theorem tLike_unb {S S' : ts} {T : ev} (h : tLike S T = .inr S') : unb S' = unb S ∧ S'.1 = S.1 := by
  unfold tLike at h
  split at h
  · cases h
  · cases h; exact ⟨unb_cg rfl rfl, rfl⟩
theorem tBind_unb {S S' : ts} (hok : ts_ok S) {v : Nat} {t : ev} (hv : v < S.1) (hs : S.2.1 v = .var v) (h : tBind S v (uap S.2.1 t) = .inr S') : unb S' + 1 = unb S ∧ S'.1 = S.1 := by
  unfold tBind at h
  split at h
  · cases h
  · rename_i hoc
    have hoc2 : uoc v (uap S.2.1 t) = false := by cases h8 : uoc v (uap S.2.1 t) with | false => rfl | true => exact absurd h8 hoc
    have h1 : unb (ts_put (ts_lev S (S.2.2.2.2 v) (uap S.2.1 t)) v (uap S.2.1 t)) + 1 = unb S := unb_put hok hv hs hoc2
    split at h
    · obtain ⟨h2, h3⟩ := tLike_unb h
      rw [h2]; exact ⟨h1, h3⟩
    · cases h; exact ⟨h1, rfl⟩
theorem tClose_unb {S S' : ts} (hok : ts_ok S) {v : Nat} {R : ev} (hv : v < S.1) (hs : S.2.1 v = .var v) (h : tClose S v R = .inr S') : unb S' + 1 = unb S ∧ S'.1 = S.1 := by
  unfold tClose at h
  split at h
  · cases h
  · rename_i hoc
    have hoc2 : uoc v (uap S.2.1 R) = false := by cases h8 : uoc v (uap S.2.1 R) with | false => rfl | true => exact absurd h8 hoc
    cases h
    exact ⟨unb_put (S := S) hok hv hs hoc2, rfl⟩
theorem ifLk_unb {S S' : ts} {b : Bool} {T : ev} (h : (if b then tLike S T else .inr S : te) = .inr S') : unb S' = unb S ∧ S'.1 = S.1 := by
  cases b with
  | false => cases h; exact ⟨rfl, rfl⟩
  | true => exact tLike_unb h
theorem tJoin_unb {S S' : ts} (hok : ts_ok S) (hf : S.2.1 S.1 = .var S.1) {f1 f2 : Nat → Option ev} {e1 e2 : Option Nat} {own its : Int32} (h1 : ∀ v, e1 = some v → v < S.1 ∧ S.2.1 v = .var v) (h2 : ∀ v, e2 = some v → v < S.1 ∧ S.2.1 v = .var v) (hne : e1 ≠ none ∨ e2 ≠ none) (hd : ∀ v, e1 = some v → e2 = some v → False) (h : tJoin S f1 f2 e1 e2 own its = .inr S') : unb S' < unb S := by
  rcases e1 with _ | v <;> rcases e2 with _ | w
  · rcases hne with h9 | h9 <;> exact absurd rfl h9
  · obtain ⟨a1, a2⟩ := h2 w rfl
    unfold tJoin te_b at h; dsimp only at h
    cases hc : tClose S w (usome f1 own (.natCast 0) 10) with
    | inl e => rw [hc] at h; cases h
    | inr S1 =>
      rw [hc] at h; dsimp only at h
      obtain ⟨b1, b2⟩ := tClose_unb hok a1 a2 hc
      cases hl : (if S1.2.2.1 w = true then tLike S1 (S1.2.1 w) else .inr S1 : te) with
      | inl e => rw [hl] at h; cases h
      | inr S2 =>
        rw [hl] at h; cases h
        obtain ⟨c1, c2⟩ := ifLk_unb hl
        omega
  · obtain ⟨a1, a2⟩ := h1 v rfl
    unfold tJoin te_b at h; dsimp only at h
    cases hc : tClose S v (usome f2 its (.natCast 0) 10) with
    | inl e => rw [hc] at h; cases h
    | inr S1 =>
      rw [hc] at h; dsimp only at h
      obtain ⟨b1, b2⟩ := tClose_unb hok a1 a2 hc
      obtain ⟨c1, c2⟩ := ifLk_unb h
      omega
  · obtain ⟨a1, a2⟩ := h1 v rfl
    obtain ⟨a3, a4⟩ := h2 w rfl
    have hvw : v ≠ w := fun e => hd v rfl (by rw [e])
    unfold tJoin te_b at h; dsimp only at h
    generalize hS0 : ts_new S (umi (S.2.2.2.2 v) (S.2.2.2.2 w)) (S.2.2.1 v || S.2.2.1 w) (S.2.2.2.1 v ||| S.2.2.2.1 w) = S0 at h
    have e0 : unb S0 = unb S + 1 := by rw [← hS0]; exact unb_new hf
    have e1 : S0.1 = S.1 + 1 := by rw [← hS0]; rfl
    have e2 : S0.2.1 = S.2.1 := by rw [← hS0]; rfl
    have hok0 : ts_ok S0 := by unfold ts_ok; rw [e2]; exact hok
    cases hc : tClose S0 w (usome f1 own (.var S.1) 10) with
    | inl e => rw [hc] at h; cases h
    | inr S1 =>
      rw [hc] at h; dsimp only at h
      obtain ⟨b1, b2⟩ := tClose_unb hok0 (by omega) (by rw [e2]; exact a4) hc
      have hv1 : S1.2.1 v = .var v := (mClose_var hok0 (by rw [e2]; exact a4) hc).2 v (by rw [e2]; exact a2) hvw
      cases hc2 : tClose S1 v (usome f2 its (.var S.1) 10) with
      | inl e => rw [hc2] at h; cases h
      | inr S2 =>
        rw [hc2] at h; dsimp only at h
        obtain ⟨d1, d2⟩ := tClose_unb (mClose_le hok0 hc).2 (by omega) hv1 hc2
        cases hl : (if S2.2.2.1 w = true then tLike S2 (S2.2.1 w) else .inr S2 : te) with
        | inl e => rw [hl] at h; cases h
        | inr S3 =>
          rw [hl] at h; dsimp only at h
          obtain ⟨c1, c2⟩ := ifLk_unb hl
          obtain ⟨g1, g2⟩ := ifLk_unb h
          omega
/-- U never adds to the unbound variables; if it takes none away, all is seen as before -/
def uFall (U : ts → ev → ev → Option te) : Prop := ∀ (S : ts) (kd : Nat → Bool) (x y : ev) (S' : ts), usg S kd → uwf (uG S kd) false (uap S.2.1 x) → uwf (uG S kd) false (uap S.2.1 y) → U S x y = some (.inr S') → unb S' ≤ unb S ∧ (unb S' = unb S → S'.2.1 = S.2.1)
theorem tLabs_fall {U : ts → ev → ev → Option te} (hU : uSnd U) (hF : uFall U) {f1 f2 : Nat → Option ev} {b : Int32} : ∀ (k : Nat) (S : ts) (kd : Nat → Bool) (S' : ts), k ≤ 10 → usg S kd → (∀ l x, l < 10 → f1 l = some x → uwf (uG S kd) false (uap S.2.1 x)) → (∀ l x, l < 10 → f2 l = some x → uwf (uG S kd) false (uap S.2.1 x)) →
    tLabs U f1 f2 b k S = some (.inr S') → unb S' ≤ unb S ∧ (unb S' = unb S → S'.2.1 = S.2.1) := by
  intro k
  induction k with
  | zero => intro S kd S' _ _ _ _ h; cases h; exact ⟨Nat.le_refl _, fun _ => rfl⟩
  | succ k ih =>
    intro S kd S' hk hS h1 h2 h
    unfold tLabs at h
    by_cases hb : uhs b (9 - k) = true
    · rw [if_pos hb] at h
      cases e1 : f1 (9 - k) with
      | none => rw [e1] at h; cases h
      | some x =>
        cases e2 : f2 (9 - k) with
        | none => rw [e1, e2] at h; cases h
        | some y =>
          rw [e1, e2] at h
          dsimp only at h
          cases hu : U S x y with
          | none => rw [hu] at h; cases h
          | some t =>
            rw [hu] at h
            cases t with
            | inl e => cases h
            | inr S1 =>
              have hx := h1 _ x (by omega) e1
              have hy := h2 _ y (by omega) e2
              obtain ⟨kd1, hgo, -⟩ := hU S kd x y S1 hS hx hy hu
              obtain ⟨a1, a2⟩ := hF S kd x y S1 hS hx hy hu
              obtain ⟨b1, b2⟩ := ih S1 kd1 S' (by omega) hgo.2.1 (fun l z hl hz => hgo.wf (h1 l z hl hz)) (fun l z hl hz => hgo.wf (h2 l z hl hz)) h
              exact ⟨Nat.le_trans b1 a1, fun e => (b2 (by omega)).trans (a2 (by omega))⟩
    · rw [if_neg hb] at h
      exact ih S kd S' (by omega) hS h1 h2 h
