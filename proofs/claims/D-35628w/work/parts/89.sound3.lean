/-! ===== the unifier is sound, whole ===== -/
set_option maxRecDepth 100000
theorem to_b_inr {x : Option te} {f : ts → Option te} {S' : ts} (h : to_b x f = some (.inr S')) : ∃ S1, x = some (.inr S1) ∧ f S1 = some (.inr S') := by
  match x with
  | none => cases h
  | some (.inl e) => cases h
  | some (.inr S1) => exact ⟨S1, rfl, h⟩
/-- what is known of unifying types -/
def uSnd (U : ts → ev → ev → Option te) : Prop := ∀ (S : ts) (kd : Nat → Bool) (x y : ev) (S' : ts), usg S kd → uwf (uG S kd) false (uap S.2.1 x) → uwf (uG S kd) false (uap S.2.1 y) → U S x y = some (.inr S') → ∃ kd', uGo S kd S' kd' ∧ uap S'.2.1 x = uap S'.2.1 y
theorem tLabs_good {U : ts → ev → ev → Option te} (hU : uSnd U) {f1 f2 : Nat → Option ev} {b : Int32} : ∀ (k : Nat) (S : ts) (kd : Nat → Bool) (S' : ts), k ≤ 10 → usg S kd → (∀ l x, l < 10 → f1 l = some x → uwf (uG S kd) false (uap S.2.1 x)) → (∀ l x, l < 10 → f2 l = some x → uwf (uG S kd) false (uap S.2.1 x)) →
    tLabs U f1 f2 b k S = some (.inr S') → ∃ kd', uGo S kd S' kd' ∧ ∀ l, 10 - k ≤ l → l < 10 → uhs b l = true → ∃ x y, f1 l = some x ∧ f2 l = some y ∧ uap S'.2.1 x = uap S'.2.1 y
  | 0, S, kd, S', _, hS, _, _, h => by
    cases h; exact ⟨kd, uGo.rf hS, fun l h1 h2 => by omega⟩
  | k + 1, S, kd, S', hk, hS, h1, h2, h => by
    unfold tLabs at h
    split at h
    · split at h
      · rename_i hb x y e1 e2
        obtain ⟨S1, c1, c2⟩ := to_b_inr h
        obtain ⟨kd1, g1, g2⟩ := hU S kd x y S1 hS (h1 _ x (by omega) e1) (h2 _ y (by omega) e2) c1
        obtain ⟨kd2, g3, g4⟩ := tLabs_good hU k S1 kd1 S' (by omega) g1.2.1 (fun l z hl hz => g1.wf (h1 l z hl hz)) (fun l z hl hz => g1.wf (h2 l z hl hz)) c2
        refine ⟨kd2, g1.trans g3, fun l hl1 hl2 hl3 => ?_⟩
        by_cases e : l = 9 - k
        · subst e
          exact ⟨x, y, e1, e2, by rw [← g3.2.2 x, g2, g3.2.2 y]⟩
        · exact g4 l (by omega) hl2 hl3
      · cases h
    · rename_i hb
      obtain ⟨kd2, g3, g4⟩ := tLabs_good hU k S kd S' (by omega) hS h1 h2 h
      refine ⟨kd2, g3, fun l hl1 hl2 hl3 => ?_⟩
      by_cases e : l = 9 - k
      · subst e; exact absurd hl3 hb
      · exact g4 l (by omega) hl2 hl3
theorem uwf.srt {S : ts} {kd : Nat → Bool} (h : usg S kd) {t : ev} (hu : urow t) : usrt (uap S.2.1 t) := by
  have hs : ∀ v, usrt (S.2.1 v) := by
    intro v
    by_cases hv : v < S.1
    · cases hk : kd v with
      | true =>
        have h1 := (h.2.1 v hv).1
        rw [show (uG S kd).2.1 v = true from hk] at h1
        have h2 : uap .var (S.2.1 v) = S.2.1 v := h.1.1 v
        rw [← h2]
        exact usrt_ap (s := .var) (fun _ => trivial) _ h1.row.1
      | false =>
        have h1 := (h.2.1 v hv).1
        rw [show (uG S kd).2.1 v = false from hk] at h1
        unfold usrt
        split
        · rename_i h9; rw [h9] at h1; exact h1.elim
        · trivial
    · rw [h.2.2 v (by omega)]; trivial
  exact usrt_ap hs t hu
theorem tRows_good {U : ts → ev → ev → Option te} (hU : uSnd U) {S S' : ts} {kd : Nat → Bool} {r1 r2 : ev} (hS : usg S kd) (hw1 : uwf (uG S kd) true r1) (hw2 : uwf (uG S kd) true r2) (hs1 : uap S.2.1 r1 = r1) (hs2 : uap S.2.1 r2 = r2)
    (h : tRows U S r1 r2 = some (.inr S')) : ∃ kd', uGo S kd S' kd' ∧ uap S'.2.1 r1 = uap S'.2.1 r2 := by
  obtain ⟨a1, a2, a3, a4⟩ := hw1.row
  obtain ⟨b1, b2, b3, b4⟩ := hw2.row
  obtain ⟨p1, p2, p3⟩ := ufl_spec hw1 (fun _ => none) 0
  obtain ⟨q1, q2, q3⟩ := ufl_spec hw2 (fun _ => none) 0
  have p1 : ∀ l, (ufl r1 (fun _ => none) 0).1 l = uget r1 l := fun l => by rw [p1]; simp
  have q1 : ∀ l, (ufl r2 (fun _ => none) 0).1 l = uget r2 l := fun l => by rw [q1]; simp
  have p2 : ∀ l, l < 10 → uhs (ufl r1 (fun _ => none) 0).2.1 l = (uget r1 l).isSome := fun l hl => by rw [p2 l hl, uhs_0 hl, Bool.or_false]
  have q2 : ∀ l, l < 10 → uhs (ufl r2 (fun _ => none) 0).2.1 l = (uget r2 l).isSome := fun l hl => by rw [q2 l hl, uhs_0 hl, Bool.or_false]
  unfold tRows at h
  simp only [p3, q3] at h
  have hfx : ∀ (F : Nat → Option ev) (r : ev), uwf (uG S kd) true r → uap S.2.1 r = r → (∀ l, F l = uget r l) → ∀ l x, l < 10 → F l = some x → uwf (uG S kd) false (uap S.2.1 x) := by
    intro F r hw hs hF l x hl hx
    rw [hF] at hx
    exact ((hw.row.2.2.1 l x hx).2.1).ap hS.2.1
  generalize hf1 : (ufl r1 (fun _ => none) 0).1 = f1 at h p1
  generalize hf2 : (ufl r2 (fun _ => none) 0).1 = f2 at h q1
  generalize hb1 : (ufl r1 (fun _ => none) 0).2.1 = B1 at h p2
  generalize hb2 : (ufl r2 (fun _ => none) 0).2.1 = B2 at h q2
  have ho : ∀ l, l < 10 → uhs (B1 &&& (B2 ^^^ (-1))) l = ((uget r1 l).isSome && !(uget r2 l).isSome) := fun l hl => by rw [uhs_and hl, uhs_not hl, p2 l hl, q2 l hl]
  have hi : ∀ l, l < 10 → uhs (B2 &&& (B1 ^^^ (-1))) l = ((uget r2 l).isSome && !(uget r1 l).isSome) := fun l hl => by rw [uhs_and hl, uhs_not hl, p2 l hl, q2 l hl]
  have hb : ∀ l, l < 10 → uhs (B1 &&& B2) l = ((uget r1 l).isSome && (uget r2 l).isSome) := fun l hl => by rw [uhs_and hl, p2 l hl, q2 l hl]
  generalize (B1 &&& (B2 ^^^ (-1))) = own at h ho
  generalize (B2 &&& (B1 ^^^ (-1))) = its at h hi
  split at h
  · cases h
  · rename_i hL
    have hL := Classical.not_not.1 hL
    split at h
    · cases h
    · rename_i hT
      have hT := Classical.not_not.1 hT
      obtain ⟨S1, c1, c2⟩ := to_b_inr h
      have hT1 : ∀ w, uend r2 = some w → ∀ l, l < 10 → uhs (S.2.2.2.1 w) l = true → uhs own l = false := by
        intro w hw l hl h1
        rcases hT.1 with h9 | h9
        · rw [h9]; exact uhs_0 hl
        · have h8 := h9 w hw
          have h7 : uhs (S.2.2.2.1 w &&& own) l = false := by rw [h8]; exact uhs_0 hl
          rw [uhs_and hl, h1, Bool.true_and] at h7; exact h7
      have hT2 : ∀ v, uend r1 = some v → ∀ l, l < 10 → uhs (S.2.2.2.1 v) l = true → uhs its l = false := by
        intro w hw l hl h1
        rcases hT.2 with h9 | h9
        · rw [h9]; exact uhs_0 hl
        · have h8 := h9 w hw
          have h7 : uhs (S.2.2.2.1 w &&& its) l = false := by rw [h8]; exact uhs_0 hl
          rw [uhs_and hl, h1, Bool.true_and] at h7; exact h7
      -- the state behind the ends, and what is said there
      have key : ∃ kd1, uGo S kd S1 kd1 ∧ ∃ en, urow en ∧ (∀ l, uget en l = none) ∧ ∀ S', ts_le S1 S' →
          (∀ l, l < 10 → uhs (B1 &&& B2) l = true → ∃ x y, f1 l = some x ∧ f2 l = some y ∧ uap S'.2.1 x = uap S'.2.1 y) → (∀ l, uget (uap S'.2.1 r1) l = uget (uap S'.2.1 r2) l) ∧ uend (uap S'.2.1 r1) = uend (uap S'.2.1 r2) := by
        -- two rows with the same labels
        have common : ∀ S' : ts, (∀ l, l < 10 → uhs (B1 &&& B2) l = true → ∃ x y, f1 l = some x ∧ f2 l = some y ∧ uap S'.2.1 x = uap S'.2.1 y) → ∀ l t u, uget r1 l = some t → uget r2 l = some u → uap S'.2.1 t = uap S'.2.1 u := by
          intro S' hc l t u ht hu
          have hl := (a3 l t ht).1
          obtain ⟨x, y, h1, h2, h3⟩ := hc l hl (by rw [hb l hl, ht, hu]; rfl)
          rw [p1, ht] at h1; rw [q1, hu] at h2
          cases h1; cases h2; exact h3
        have lt1 : ∀ l, 10 ≤ l → uget r1 l = none := fun l hl => by
          cases e : uget r1 l with
          | none => rfl
          | some t => have := (a3 l t e).1; omega
        have lt2 : ∀ l, 10 ≤ l → uget r2 l = none := fun l hl => by
          cases e : uget r2 l with
          | none => rfl
          | some t => have := (b3 l t e).1; omega
        split at c1
        · rename_i hsame
          split at c1
          · rename_i h0
            cases c1
            have hz : ∀ l, l < 10 → uhs own l = false ∧ uhs its l = false := fun l hl => by
              have : uhs (own ||| its) l = false := by rw [h0]; exact uhs_0 hl
              rw [uhs_or hl, Bool.or_eq_false_iff] at this; exact this
            refine ⟨kd, uGo.rf hS, .natCast 0, rfl, fun _ => rfl, fun S' hle hc => ⟨fun l => ?_, by rw [uend_ap _ a1, uend_ap _ b1, hsame.2]⟩⟩
            rw [uget_ap _ a1, uget_ap _ b1, hsame.2]
            by_cases hl : l < 10
            · obtain ⟨z1, z2⟩ := hz l hl
              rw [ho l hl] at z1; rw [hi l hl] at z2
              cases e1 : uget r1 l with
              | none => cases e2 : uget r2 l with
                | none => rfl
                | some u => rw [e1, e2] at z2; cases z2
              | some t => cases e2 : uget r2 l with
                | none => rw [e1, e2] at z1; cases z1
                | some u => simp only [Option.map_some, Option.some_or]; rw [common S' hc l t u e1 e2]
            · rw [lt1 l (by omega), lt2 l (by omega)]
          · cases c1
        · rename_i hdiff
          -- joined, or both closed
          have hj : tJoin S f1 f2 (uend r1) (uend r2) own its = .inr S1 := by
            split at c1
            · exact Option.some.inj c1
            · rename_i h9
              cases c1
              have e1 : uend r1 = none := by cases e : uend r1 with | none => rfl | some v => exact absurd (Or.inl (by rw [e]; simp)) h9
              have e2 : uend r2 = none := by cases e : uend r2 with | none => rfl | some v => exact absurd (Or.inr (by rw [e]; simp)) h9
              rw [e1, e2]; rfl
          obtain ⟨kd1, g1, en, g2, g3, g4, g5, g6⟩ := tJoin_good hS hw1 hw2 hs1 hs2 p1 q1 ho hi (fun v h1 h2 => hdiff ⟨by rw [h1]; simp, by rw [h1, h2]⟩) hT1 hT2 hj
          refine ⟨kd1, g1, en, g2, g3, fun S' hle hc => ?_⟩
          have up : ∀ x y : ev, uap S1.2.1 x = uap S1.2.1 y → uap S'.2.1 x = uap S'.2.1 y := fun x y h9 => by rw [← hle x, h9, hle y]
          -- what the ends say
          have en1 : ∀ l, ((uend r1).bind fun v => uget (S'.2.1 v) l) = if uend r1 = none then none else (if l < 10 ∧ uhs its l = true then (uget r2 l).map (uap S'.2.1) else none).or (uget (uap S'.2.1 en) l) := by
            intro l
            cases e : uend r1 with
            | none => rfl
            | some v =>
              rw [if_neg (by simp)]
              show uget (uap S'.2.1 (.var v)) l = _
              rw [up _ _ (g5 v e), uget_ap _ (urow_some 10 en g2), uget_some, uend_some, g3, uget_ap _ g2, g3, q1]
              by_cases hx : l < 10 ∧ uhs its l = true
              · rw [if_pos hx, if_pos hx]; simp
              · rw [if_neg hx, if_neg hx]; simp
          have en2 : ∀ l, ((uend r2).bind fun v => uget (S'.2.1 v) l) = if uend r2 = none then none else (if l < 10 ∧ uhs own l = true then (uget r1 l).map (uap S'.2.1) else none).or (uget (uap S'.2.1 en) l) := by
            intro l
            cases e : uend r2 with
            | none => rfl
            | some v =>
              rw [if_neg (by simp)]
              show uget (uap S'.2.1 (.var v)) l = _
              rw [up _ _ (g6 v e), uget_ap _ (urow_some 10 en g2), uget_some, uend_some, g3, uget_ap _ g2, g3, p1]
              by_cases hx : l < 10 ∧ uhs own l = true
              · rw [if_pos hx, if_pos hx]; simp
              · rw [if_neg hx, if_neg hx]; simp
          have ee1 : ((uend r1).bind fun v => uend (S'.2.1 v)) = if uend r1 = none then none else uend (uap S'.2.1 en) := by
            cases e : uend r1 with
            | none => rfl
            | some v =>
              rw [if_neg (by simp)]
              show uend (uap S'.2.1 (.var v)) = _
              rw [up _ _ (g5 v e), uend_ap _ (urow_some 10 en g2), uend_some, uend_ap _ g2]
          have ee2 : ((uend r2).bind fun v => uend (S'.2.1 v)) = if uend r2 = none then none else uend (uap S'.2.1 en) := by
            cases e : uend r2 with
            | none => rfl
            | some v =>
              rw [if_neg (by simp)]
              show uend (uap S'.2.1 (.var v)) = _
              rw [up _ _ (g6 v e), uend_ap _ (urow_some 10 en g2), uend_some, uend_ap _ g2]
          have two : ∀ {α : Type} (X : Option α), (uend r1 = none ∨ uend r2 = none → X = none) → (if uend r1 = none then none else X) = (if uend r2 = none then none else X) := by
            intro α X hX
            by_cases h1 : uend r1 = none
            · rw [hX (Or.inl h1)]; simp
            · by_cases h2 : uend r2 = none
              · rw [hX (Or.inr h2)]; simp
              · rw [if_neg h1, if_neg h2]
          refine ⟨fun l => ?_, ?_⟩
          · rw [uget_ap _ a1, uget_ap _ b1, en1, en2]
            cases e1 : uget r1 l with
            | none => cases e2 : uget r2 l with
              | none =>
                have z := two (uget (uap S'.2.1 en) l) (fun h9 => by rw [g4 h9]; rfl)
                simpa using z
              | some u =>
                have hl := (b3 l u e2).1
                have z1 : uhs its l = true := by rw [hi l hl, e1, e2]; rfl
                have z2 : uend r1 ≠ none := by rcases hL.2 with h9 | h9
                                               · rw [h9, uhs_0 hl] at z1; cases z1
                                               · exact h9
                simp [z2, hl, z1]
            | some t => cases e2 : uget r2 l with
              | none =>
                have hl := (a3 l t e1).1
                have z1 : uhs own l = true := by rw [ho l hl, e1, e2]; rfl
                have z2 : uend r2 ≠ none := by rcases hL.1 with h9 | h9
                                               · rw [h9, uhs_0 hl] at z1; cases z1
                                               · exact h9
                simp [z2, hl, z1]
              | some u => simp only [Option.map_some, Option.some_or]; rw [common S' hc l t u e1 e2]
          · rw [uend_ap _ a1, uend_ap _ b1, ee1, ee2]
            exact two _ (fun h9 => by rw [g4 h9]; rfl)
      obtain ⟨kd1, g1, en, -, -, hkey⟩ := key
      obtain ⟨kd2, g2, hlab⟩ := tLabs_good hU 10 S1 kd1 S' (Nat.le_refl _) g1.2.1 (fun l x hl hx => g1.wf (hfx f1 r1 hw1 hs1 p1 l x hl hx)) (fun l x hl hx => g1.wf (hfx f2 r2 hw2 hs2 q1 l x hl hx)) c2
      obtain ⟨k1, k2⟩ := hkey S' g2.2.2 (fun l hl hx => hlab l (by omega) hl hx)
      have w1 : uwf (uG S' kd2) true (uap S'.2.1 r1) := (g1.trans g2).wf (by rw [hs1]; exact hw1)
      have w2 : uwf (uG S' kd2) true (uap S'.2.1 r2) := (g1.trans g2).wf (by rw [hs2]; exact hw2)
      exact ⟨kd2, g1.trans g2, urow_ext _ _ w1.row.1 w2.row.1 (uwf.srt g2.2.1 a1) (uwf.srt g2.2.1 b1) w1.row.2.1 w2.row.2.1 k1 k2⟩
/-- unifying is sound -/
theorem tU_good : ∀ n : Nat, uSnd (tU n)
  | 0 => fun S kd x y S' _ _ _ h => by cases h
  | n + 1 => fun S kd x y S' hS hx hy h => by
    have ih := tU_good n
    have rt : ∀ t : ev, uap S.2.1 (uap S.2.1 t) = uap S.2.1 t := hS.1.le
    unfold tU at h
    split at h
    · rename_i v w e1 e2
      split at h
      · rename_i e; cases h; exact ⟨kd, uGo.rf hS, by rw [e1, e2, e]⟩
      · rw [e1] at hx
        have h1 := rt x; rw [e1] at h1
        rw [← e2] at h
        obtain ⟨g1, g2⟩ := tBind_good hS hx.1 hx.2 h1 hy (Option.some.inj h)
        exact ⟨kd, g1, by rw [← g1.2.2 x, e1, g2]⟩
    · rename_i v e1 hn
      rw [e1] at hx
      have h1 := rt x; rw [e1] at h1
      obtain ⟨g1, g2⟩ := tBind_good hS hx.1 hx.2 h1 hy (Option.some.inj h)
      exact ⟨kd, g1, by rw [← g1.2.2 x, e1, g2]⟩
    · rename_i w e2 hn
      rw [e2] at hy
      have h1 := rt y; rw [e2] at h1
      obtain ⟨g1, g2⟩ := tBind_good hS hy.1 hy.2 h1 hx (Option.some.inj h)
      exact ⟨kd, g1, by rw [← g1.2.2 y, e2, g2]⟩
    · rename_i a b c d e1 e2
      have h1 := rt x; rw [e1] at h1
      have h2 := rt y; rw [e2] at h2
      simp only [uap, Lean.Grind.CommRing.Expr.sub.injEq] at h1 h2
      rw [e1] at hx; rw [e2] at hy
      obtain ⟨S1, c1, c2⟩ := to_b_inr h
      obtain ⟨kd1, g1, g2⟩ := ih S kd a c S1 hS (by rw [h1.1]; exact hx.1) (by rw [h2.1]; exact hy.1) c1
      obtain ⟨kd2, g3, g4⟩ := ih S1 kd1 b d S' g1.2.1 (g1.wf (by rw [h1.2]; exact hx.2)) (g1.wf (by rw [h2.2]; exact hy.2)) c2
      refine ⟨kd2, g1.trans g3, ?_⟩
      rw [← (g1.trans g3).2.2 x, ← (g1.trans g3).2.2 y, e1, e2]
      simp only [uap]
      rw [g4, ← g3.2.2 a, g2, g3.2.2 c]
    · rename_i r k q j e1 e2
      have h1 := rt x; rw [e1] at h1
      have h2 := rt y; rw [e2] at h2
      simp only [uap, Lean.Grind.CommRing.Expr.pow.injEq] at h1 h2
      rw [e1] at hx; rw [e2] at hy
      simp only [uwf] at hx hy
      split at h
      · rename_i e
        obtain ⟨kd1, g1, g2⟩ := tRows_good ih hS hx hy h1.1 h2.1 h
        refine ⟨kd1, g1, ?_⟩
        rw [← g1.2.2 x, ← g1.2.2 y, e1, e2]
        simp only [uap]
        rw [g2, e]
      · cases h
    · rename_i a b e1 e2
      cases h
      rw [e1] at hx; rw [e2] at hy
      simp only [uwf] at hx hy
      exact ⟨kd, uGo.rf hS, by rw [e1, e2, hx, hy]⟩
    · cases h
