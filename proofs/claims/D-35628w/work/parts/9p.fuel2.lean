/-! ===== the unifier ends ===== -/
set_option maxRecDepth 100000
theorem tU_mono2 {n n' : Nat} (hn : n ≤ n') {S : ts} {x y : ev} {r : te} (h : tU n S x y = some r) : tU n' S x y = some r := by
  obtain ⟨d, rfl⟩ := Nat.exists_eq_add_of_le hn
  clear hn
  induction d with
  | zero => exact h
  | succ d ih => exact tU_mono _ _ _ _ _ ih
/-- rows: an error ahead of the labels, or the labels from a later state -/
theorem tRows_mid {S : ts} {kd : Nat → Bool} {r1 r2 : ev} (hS : usg S kd) (hw1 : uwf (uG S kd) true r1) (hw2 : uwf (uG S kd) true r2) (hs1 : uap S.2.1 r1 = r1) (hs2 : uap S.2.1 r2 = r2) :
    (∃ e, ∀ U, tRows U S r1 r2 = some (.inl e)) ∨ ∃ S1 kd1, uGo S kd S1 kd1 ∧ unb S1 ≤ unb S ∧ (unb S1 = unb S → S1.2.1 = S.2.1) ∧ ∃ f1 f2 b, (∀ l, f1 l = uget r1 l) ∧ (∀ l, f2 l = uget r2 l) ∧
      (∀ l, l < 10 → uhs b l = true → (uget r1 l).isSome = true ∧ (uget r2 l).isSome = true) ∧ ∀ U, tRows U S r1 r2 = tLabs U f1 f2 b 10 S1 := by
  obtain ⟨a1, a2, a3, a4⟩ := hw1.row
  obtain ⟨b1, b2, b3, b4⟩ := hw2.row
  obtain ⟨p1, p2, p3⟩ := ufl_spec hw1 (fun _ => none) 0
  obtain ⟨q1, q2, q3⟩ := ufl_spec hw2 (fun _ => none) 0
  have p1 : ∀ l, (ufl r1 (fun _ => none) 0).1 l = uget r1 l := fun l => by rw [p1]; simp
  have q1 : ∀ l, (ufl r2 (fun _ => none) 0).1 l = uget r2 l := fun l => by rw [q1]; simp
  have p2 : ∀ l, l < 10 → uhs (ufl r1 (fun _ => none) 0).2.1 l = (uget r1 l).isSome := fun l hl => by rw [p2 l hl, uhs_0 hl, Bool.or_false]
  have q2 : ∀ l, l < 10 → uhs (ufl r2 (fun _ => none) 0).2.1 l = (uget r2 l).isSome := fun l hl => by rw [q2 l hl, uhs_0 hl, Bool.or_false]
  simp only [tRows, p3, q3]
  generalize hf1 : (ufl r1 (fun _ => none) 0).1 = f1 at p1 ⊢
  generalize hf2 : (ufl r2 (fun _ => none) 0).1 = f2 at q1 ⊢
  generalize hb1 : (ufl r1 (fun _ => none) 0).2.1 = B1 at p2 ⊢
  generalize hb2 : (ufl r2 (fun _ => none) 0).2.1 = B2 at q2 ⊢
  have ho : ∀ l, l < 10 → uhs (B1 &&& (B2 ^^^ (-1))) l = ((uget r1 l).isSome && !(uget r2 l).isSome) := fun l hl => by rw [uhs_and hl, uhs_not hl, p2 l hl, q2 l hl]
  have hi : ∀ l, l < 10 → uhs (B2 &&& (B1 ^^^ (-1))) l = ((uget r2 l).isSome && !(uget r1 l).isSome) := fun l hl => by rw [uhs_and hl, uhs_not hl, p2 l hl, q2 l hl]
  have hb : ∀ l, l < 10 → uhs (B1 &&& B2) l = true → (uget r1 l).isSome = true ∧ (uget r2 l).isSome = true := fun l hl h9 => by rw [uhs_and hl, p2 l hl, q2 l hl, Bool.and_eq_true] at h9; exact h9
  generalize (B1 &&& (B2 ^^^ (-1))) = own at ho ⊢
  generalize (B2 &&& (B1 ^^^ (-1))) = its at hi ⊢
  by_cases hL : (own = 0 ∨ uend r2 ≠ none) ∧ (its = 0 ∨ uend r1 ≠ none)
  rotate_left
  · exact Or.inl ⟨6, fun U => if_pos hL⟩
  simp only [if_neg (Classical.not_not.2 hL)]
  by_cases hT : (own = 0 ∨ ∀ w, uend r2 = some w → S.2.2.2.1 w &&& own = 0) ∧ (its = 0 ∨ ∀ v, uend r1 = some v → S.2.2.2.1 v &&& its = 0)
  rotate_left
  · exact Or.inl ⟨4, fun U => if_pos hT⟩
  simp only [if_neg (Classical.not_not.2 hT)]
  have hT1 : ∀ w, uend r2 = some w → ∀ l, l < 10 → uhs (S.2.2.2.1 w) l = true → uhs own l = false := by
    intro w hw l hl h1
    rcases hT.1 with h9 | h9
    · rw [h9]; exact uhs_0 hl
    · have h8 := h9 w hw
      have h7 : uhs (S.2.2.2.1 w &&& own) l = false := by rw [h8]; exact uhs_0 hl
      rw [uhs_and hl, h1, Bool.true_and] at h7; exact h7
  have hT2 : ∀ v, uend r1 = some v → ∀ l, l < 10 → uhs (S.2.2.2.1 v) l = true → uhs its l = false := by
    intro w hw l hl h1
    rcases hT.2 with h9 | h9
    · rw [h9]; exact uhs_0 hl
    · have h8 := h9 w hw
      have h7 : uhs (S.2.2.2.1 w &&& its) l = false := by rw [h8]; exact uhs_0 hl
      rw [uhs_and hl, h1, Bool.true_and] at h7; exact h7
  by_cases hsame : uend r1 ≠ none ∧ uend r1 = uend r2
  · by_cases h0 : (own ||| its) = 0
    · right
      refine ⟨S, kd, uGo.rf hS, Nat.le_refl _, fun _ => rfl, f1, f2, B1 &&& B2, p1, q1, hb, fun U => ?_⟩
      rw [if_pos hsame, if_pos h0]; rfl
    · exact Or.inl ⟨3, fun U => by rw [if_pos hsame, if_neg h0]; rfl⟩
  · by_cases hj0 : uend r1 ≠ none ∨ uend r2 ≠ none
    · have hd : ∀ v, uend r1 = some v → uend r2 = some v → False := fun v h1 h2 => hsame ⟨by rw [h1]; simp, by rw [h1, h2]⟩
      cases hj : tJoin S f1 f2 (uend r1) (uend r2) own its with
      | inl e => exact Or.inl ⟨e, fun U => by rw [if_neg hsame, if_pos hj0]; rfl⟩
      | inr S1 =>
        obtain ⟨kd1, g1, -⟩ := tJoin_good hS hw1 hw2 hs1 hs2 p1 q1 ho hi hd hT1 hT2 hj
        have hu := tJoin_unb hS.1 (hS.2.2 S.1 (Nat.le_refl _)) (fun v e => ⟨(a4 v e).1, hS.1.root hs1 (uend_oc e)⟩) (fun v e => ⟨(b4 v e).1, hS.1.root hs2 (uend_oc e)⟩) hj0 hd hj
        right
        refine ⟨S1, kd1, g1, Nat.le_of_lt hu, fun e => absurd e (by omega), f1, f2, B1 &&& B2, p1, q1, hb, fun U => ?_⟩
        rw [if_neg hsame, if_pos hj0]; rfl
    · right
      refine ⟨S, kd, uGo.rf hS, Nat.le_refl _, fun _ => rfl, f1, f2, B1 &&& B2, p1, q1, hb, fun U => ?_⟩
      rw [if_neg hsame, if_neg hj0]; rfl
/-- a row's types are as they should be -/
theorem uget_wf {S : ts} {kd : Nat → Bool} (hS : usg S kd) {r : ev} (hw : uwf (uG S kd) true r) {l : Nat} {x : ev} (h : uget r l = some x) : uwf (uG S kd) false (uap S.2.1 x) := ((hw.row.2.2.1 l x h).2.1).ap hS.2.1
theorem tRows_fall {U : ts → ev → ev → Option te} (hU : uSnd U) (hF : uFall U) {S S' : ts} {kd : Nat → Bool} {r1 r2 : ev} (hS : usg S kd) (hw1 : uwf (uG S kd) true r1) (hw2 : uwf (uG S kd) true r2) (hs1 : uap S.2.1 r1 = r1) (hs2 : uap S.2.1 r2 = r2)
    (h : tRows U S r1 r2 = some (.inr S')) : unb S' ≤ unb S ∧ (unb S' = unb S → S'.2.1 = S.2.1) := by
  rcases tRows_mid hS hw1 hw2 hs1 hs2 with ⟨e, he⟩ | ⟨S1, kd1, g1, u1, u2, f1, f2, b, p1, q1, hb, he⟩
  · rw [he U] at h; cases h
  · rw [he U] at h
    obtain ⟨c1, c2⟩ := tLabs_fall hU hF 10 S1 kd1 S' (Nat.le_refl _) g1.2.1 (fun l x hl hx => g1.wf (uget_wf hS hw1 (by rw [← p1]; exact hx))) (fun l x hl hx => g1.wf (uget_wf hS hw2 (by rw [← q1]; exact hx))) h
    exact ⟨Nat.le_trans c1 u1, fun e => (c2 (by omega)).trans (u2 (by omega))⟩
theorem tU_fall : ∀ n : Nat, uFall (tU n)
  | 0 => fun S kd x y S' _ _ _ h => by cases h
  | n + 1 => fun S kd x y S' hS hx hy h => by
    have ih := tU_fall n
    have rt : ∀ t : ev, uap S.2.1 (uap S.2.1 t) = uap S.2.1 t := hS.1.le
    unfold tU at h
    split at h
    · rename_i v w e1 e2
      split at h
      · cases h; exact ⟨Nat.le_refl _, fun _ => rfl⟩
      · rw [e1] at hx
        have h1 := rt x; rw [e1] at h1
        rw [← e2] at h
        have := (tBind_unb hS.1 hx.1 h1 (Option.some.inj h)).1
        exact ⟨by omega, fun e => absurd e (by omega)⟩
    · rename_i v e1 hn
      rw [e1] at hx
      have h1 := rt x; rw [e1] at h1
      have := (tBind_unb hS.1 hx.1 h1 (Option.some.inj h)).1
      exact ⟨by omega, fun e => absurd e (by omega)⟩
    · rename_i w e2 hn
      rw [e2] at hy
      have h1 := rt y; rw [e2] at h1
      have := (tBind_unb hS.1 hy.1 h1 (Option.some.inj h)).1
      exact ⟨by omega, fun e => absurd e (by omega)⟩
    · rename_i a b c d e1 e2
      have h1 := rt x; rw [e1] at h1
      have h2 := rt y; rw [e2] at h2
      simp only [uap, Lean.Grind.CommRing.Expr.sub.injEq] at h1 h2
      rw [e1] at hx; rw [e2] at hy
      obtain ⟨S1, c1, c2⟩ := to_b_inr h
      have xa : uwf (uG S kd) false (uap S.2.1 a) := by rw [h1.1]; exact hx.1
      have xc : uwf (uG S kd) false (uap S.2.1 c) := by rw [h2.1]; exact hy.1
      obtain ⟨kd1, g1, -⟩ := tU_good n S kd a c S1 hS xa xc c1
      obtain ⟨u1, u2⟩ := ih S kd a c S1 hS xa xc c1
      obtain ⟨u3, u4⟩ := ih S1 kd1 b d S' g1.2.1 (g1.wf (by rw [h1.2]; exact hx.2)) (g1.wf (by rw [h2.2]; exact hy.2)) c2
      exact ⟨Nat.le_trans u3 u1, fun e => (u4 (by omega)).trans (u2 (by omega))⟩
    · rename_i r k q j e1 e2
      have h1 := rt x; rw [e1] at h1
      have h2 := rt y; rw [e2] at h2
      simp only [uap, Lean.Grind.CommRing.Expr.pow.injEq] at h1 h2
      rw [e1] at hx; rw [e2] at hy
      simp only [uwf] at hx hy
      split at h
      · exact tRows_fall (tU_good n) ih hS hx hy h1.1 h2.1 h
      · cases h
    · cases h; exact ⟨Nat.le_refl _, fun _ => rfl⟩
    · cases h
/-- labels: ends, if all their types do -/
theorem tLabs_ends {m s : Nat} {σ : Nat → ev} (ihm : ∀ (S : ts) (kd : Nat → Bool) (x y : ev), usg S kd → uwf (uG S kd) false (uap S.2.1 x) → uwf (uG S kd) false (uap S.2.1 y) → unb S < m → ∃ n r, tU n S x y = some r)
    (ihs : ∀ (S : ts) (kd : Nat → Bool) (x y : ev), usg S kd → uwf (uG S kd) false (uap S.2.1 x) → uwf (uG S kd) false (uap S.2.1 y) → unb S < m + 1 → SizeOf.sizeOf (uap S.2.1 x) + SizeOf.sizeOf (uap S.2.1 y) < s → ∃ n r, tU n S x y = some r)
    {f1 f2 : Nat → Option ev} {b : Int32} (hsz : ∀ l, l < 10 → uhs b l = true → ∃ x y, f1 l = some x ∧ f2 l = some y ∧ SizeOf.sizeOf (uap σ x) + SizeOf.sizeOf (uap σ y) < s) :
    ∀ (k : Nat) (S : ts) (kd : Nat → Bool), k ≤ 10 → usg S kd → (unb S < m ∨ (unb S < m + 1 ∧ S.2.1 = σ)) → (∀ l x, l < 10 → f1 l = some x → uwf (uG S kd) false (uap S.2.1 x)) → (∀ l x, l < 10 → f2 l = some x → uwf (uG S kd) false (uap S.2.1 x)) → ∃ n r, tLabs (tU n) f1 f2 b k S = some r := by
  intro k
  induction k with
  | zero => intro S kd _ _ _ _ _; exact ⟨0, .inr S, rfl⟩
  | succ k ih =>
    intro S kd hk hS hu h1 h2
    by_cases hb : uhs b (9 - k) = true
    · obtain ⟨x, y, e1, e2, hs9⟩ := hsz _ (by omega) hb
      have hx := h1 _ x (by omega) e1
      have hy := h2 _ y (by omega) e2
      have hfirst : ∃ n r, tU n S x y = some r := by
        rcases hu with hu | ⟨hu, he⟩
        · exact ihm S kd x y hS hx hy hu
        · exact ihs S kd x y hS hx hy hu (by rw [he]; exact hs9)
      obtain ⟨n1, r1, ht⟩ := hfirst
      cases r1 with
      | inl e =>
        refine ⟨n1, .inl e, ?_⟩
        unfold tLabs
        rw [if_pos hb, e1, e2]
        dsimp only
        rw [ht]; rfl
      | inr S1 =>
        obtain ⟨kd1, g1, -⟩ := tU_good n1 S kd x y S1 hS hx hy ht
        obtain ⟨u1, u2⟩ := tU_fall n1 S kd x y S1 hS hx hy ht
        have hu1 : unb S1 < m ∨ (unb S1 < m + 1 ∧ S1.2.1 = σ) := by
          by_cases h9 : unb S1 < m
          · exact Or.inl h9
          · rcases hu with hu | ⟨hu, he⟩
            · exact absurd (Nat.lt_of_le_of_lt u1 hu) h9
            · exact Or.inr ⟨by omega, (u2 (by omega)).trans he⟩
        obtain ⟨n2, r2, ht2⟩ := ih S1 kd1 (by omega) g1.2.1 hu1 (fun l z hl hz => g1.wf (h1 l z hl hz)) (fun l z hl hz => g1.wf (h2 l z hl hz))
        refine ⟨max n1 n2, r2, ?_⟩
        unfold tLabs
        rw [if_pos hb, e1, e2]
        dsimp only
        rw [tU_mono2 (Nat.le_max_left n1 n2) ht]
        exact tLabs_mono (fun S x y r h9 => tU_mono2 (Nat.le_max_right n1 n2) h9) k S1 r2 ht2
    · obtain ⟨n, r, ht⟩ := ih S kd (by omega) hS hu h1 h2
      refine ⟨n, r, ?_⟩
      unfold tLabs
      rw [if_neg hb]; exact ht
theorem tU_ends_lt : ∀ (m : Nat) (S : ts) (kd : Nat → Bool) (x y : ev), usg S kd → uwf (uG S kd) false (uap S.2.1 x) → uwf (uG S kd) false (uap S.2.1 y) → unb S < m → ∃ n r, tU n S x y = some r := by
  intro m
  induction m with
  | zero => intro S kd x y _ _ _ h; omega
  | succ m ihm =>
    have key : ∀ (s : Nat) (S : ts) (kd : Nat → Bool) (x y : ev), usg S kd → uwf (uG S kd) false (uap S.2.1 x) → uwf (uG S kd) false (uap S.2.1 y) → unb S < m + 1 → SizeOf.sizeOf (uap S.2.1 x) + SizeOf.sizeOf (uap S.2.1 y) < s → ∃ n r, tU n S x y = some r := by
      intro s
      induction s with
      | zero => intro S kd x y _ _ _ _ h; omega
      | succ s ihs =>
        intro S kd x y hS hx hy hu hz
        have rt : ∀ t : ev, uap S.2.1 (uap S.2.1 t) = uap S.2.1 t := hS.1.le
        have rx := rt x
        have ry := rt y
        have hone : ∀ n, tU (n + 1) S x y = match uap S.2.1 x, uap S.2.1 y with
            | .var v, .var w => if v = w then some (.inr S) else some (tBind S v (.var w))
            | .var v, T => some (tBind S v T)
            | T, .var w => some (tBind S w T)
            | .sub a b, .sub c d => to_b (tU n S a c) fun S1 => tU n S1 b d
            | .pow r k, .pow q j => if k = j then tRows (tU n) S r q else some (.inl 2)
            | .natCast _, .natCast _ => some (.inr S)
            | _, _ => some (.inl 2) := fun n => rfl
        generalize uap S.2.1 x = X at hx hz rx hone
        generalize uap S.2.1 y = Y at hy hz ry hone
        cases X <;> cases Y <;> dsimp only at hone <;> first
          | exact ⟨1, _, hone 0⟩
          | (rename_i v w
             by_cases hvw : v = w
             · exact ⟨1, _, (hone 0).trans (if_pos hvw)⟩
             · exact ⟨1, _, (hone 0).trans (if_neg hvw)⟩)
          | skip
        · rename_i a b c d
          simp only [uap, Lean.Grind.CommRing.Expr.sub.injEq] at rx ry
          have z1 : SizeOf.sizeOf (Lean.Grind.CommRing.Expr.sub a b) = 1 + SizeOf.sizeOf a + SizeOf.sizeOf b := rfl
          have z2 : SizeOf.sizeOf (Lean.Grind.CommRing.Expr.sub c d) = 1 + SizeOf.sizeOf c + SizeOf.sizeOf d := rfl
          have xa : uwf (uG S kd) false (uap S.2.1 a) := by rw [rx.1]; exact hx.1
          have xc : uwf (uG S kd) false (uap S.2.1 c) := by rw [ry.1]; exact hy.1
          have xb : uwf (uG S kd) false (uap S.2.1 b) := by rw [rx.2]; exact hx.2
          have xd : uwf (uG S kd) false (uap S.2.1 d) := by rw [ry.2]; exact hy.2
          obtain ⟨n1, r1, ht⟩ := ihs S kd a c hS xa xc hu (by rw [rx.1, ry.1]; omega)
          cases r1 with
          | inl e => exact ⟨n1 + 1, .inl e, by rw [hone n1, ht]; rfl⟩
          | inr S1 =>
            obtain ⟨kd1, g1, -⟩ := tU_good n1 S kd a c S1 hS xa xc ht
            obtain ⟨u1, u2⟩ := tU_fall n1 S kd a c S1 hS xa xc ht
            have hsec : ∃ n r, tU n S1 b d = some r := by
              by_cases h9 : unb S1 < m
              · exact ihm S1 kd1 b d g1.2.1 (g1.wf xb) (g1.wf xd) h9
              · have he : S1.2.1 = S.2.1 := u2 (by omega)
                exact ihs S1 kd1 b d g1.2.1 (g1.wf xb) (g1.wf xd) (by omega) (by rw [he, rx.2, ry.2]; omega)
            obtain ⟨n2, r2, ht2⟩ := hsec
            refine ⟨max n1 n2 + 1, r2, ?_⟩
            rw [hone, tU_mono2 (Nat.le_max_left n1 n2) ht]
            exact tU_mono2 (Nat.le_max_right n1 n2) ht2
        · rename_i r k q j
          simp only [uap, Lean.Grind.CommRing.Expr.pow.injEq] at rx ry
          simp only [uwf] at hx hy
          by_cases hkj : k = j
          rotate_left
          · exact ⟨1, _, (hone 0).trans (if_neg hkj)⟩
          have z1 : SizeOf.sizeOf (Lean.Grind.CommRing.Expr.pow r k) = 1 + SizeOf.sizeOf r + SizeOf.sizeOf k := rfl
          have z2 : SizeOf.sizeOf (Lean.Grind.CommRing.Expr.pow q j) = 1 + SizeOf.sizeOf q + SizeOf.sizeOf j := rfl
          rcases tRows_mid hS hx hy rx.1 ry.1 with ⟨e, he⟩ | ⟨S1, kd1, g1, u1, u2, f1, f2, b, p1, q1, hb, he⟩
          · exact ⟨1, _, (hone 0).trans ((if_pos hkj).trans (he _))⟩
          · have hu1 : unb S1 < m ∨ (unb S1 < m + 1 ∧ S1.2.1 = S.2.1) := by
              by_cases h9 : unb S1 < m
              · exact Or.inl h9
              · exact Or.inr ⟨by omega, u2 (by omega)⟩
            obtain ⟨n, r9, ht⟩ := tLabs_ends (m := m) (s := s) (σ := S.2.1) ihm ihs (f1 := f1) (f2 := f2) (b := b) (fun l hl hbl => by
              obtain ⟨i1, i2⟩ := hb l hl hbl
              obtain ⟨x9, hx9⟩ := Option.isSome_iff_exists.1 i1
              obtain ⟨y9, hy9⟩ := Option.isSome_iff_exists.1 i2
              have w1 := (uget_low (s := S.2.1) hx9).2
              have w2 := (uget_low (s := S.2.1) hy9).2
              rw [rx.1] at w1; rw [ry.1] at w2
              exact ⟨x9, y9, by rw [p1]; exact hx9, by rw [q1]; exact hy9, by omega⟩) 10 S1 kd1 (Nat.le_refl _) g1.2.1 hu1
              (fun l z hl hz => g1.wf (uget_wf hS hx (by rw [← p1]; exact hz))) (fun l z hl hz => g1.wf (uget_wf hS hy (by rw [← q1]; exact hz)))
            exact ⟨n + 1, r9, (hone n).trans ((if_pos hkj).trans ((he _).trans ht))⟩
    intro S kd x y hS hx hy hu
    exact key _ S kd x y hS hx hy hu (Nat.lt_succ_self _)
/-- THE UNIFIER ENDS: with enough fuel it answers -/
theorem tU_ends {S : ts} {kd : Nat → Bool} {x y : ev} (hS : usg S kd) (hx : uwf (uG S kd) false (uap S.2.1 x)) (hy : uwf (uG S kd) false (uap S.2.1 y)) : ∃ n r, tU n S x y = some r := tU_ends_lt _ S kd x y hS hx hy (Nat.lt_succ_self _)
