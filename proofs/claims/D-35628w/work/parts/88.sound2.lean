/-! ===== the unifier is sound: rows ===== -/
set_option maxRecDepth 100000
theorem uend_oc {v : Nat} : ∀ {r : ev}, uend r = some v → uoc v r = true := by
  intro r h
  match r with
  | .var w => simp only [uend, Option.some.injEq] at h; simp [uoc, h]
  | .add (.pow t k) r => simp only [uend] at h; simp [uoc, uend_oc h]
  | .add (.num _) _ | .add (.natCast _) _ | .add (.intCast _) _ | .add (.var _) _ | .add (.neg _) _ | .add (.add _ _) _ | .add (.sub _ _) _ | .add (.mul _ _) _
  | .num _ | .natCast _ | .intCast _ | .neg _ | .sub _ _ | .mul _ _ | .pow _ _ => simp [uend] at h
theorem ts_ok.root {S : ts} (h : ts_ok S) {t : ev} (ht : uap S.2.1 t = t) {v : Nat} (hv : uoc v t = true) : S.2.1 v = .var v := by
  rw [← ht] at hv
  obtain ⟨u, -, h2⟩ := uoc_ap.1 hv
  exact h.2 u v h2
theorem tLike_inr {S S' : ts} {T : ev} (h : tLike S T = .inr S') : S' = ts_like S T := by
  unfold tLike at h; split at h
  · cases h
  · cases h; rfl
theorem te_b_inr {x : te} {f : ts → te} {S' : ts} (h : te_b x f = .inr S') : ∃ S1, x = .inr S1 ∧ f S1 = .inr S' := by
  cases x with
  | inl e => cases h
  | inr S1 => exact ⟨S1, rfl, h⟩
theorem like_if {S S' : ts} {c : Bool} {T : ev} (h : (if c = true then tLike S T else .inr S) = .inr S') : S'.1 = S.1 ∧ S'.2.1 = S.2.1 ∧ S'.2.2.2.1 = S.2.2.2.1 := by
  split at h
  · rw [tLike_inr h]; exact ⟨rfl, rfl, rfl⟩
  · cases h; exact ⟨rfl, rfl, rfl⟩
theorem uGo.same {S S1 S2 : ts} {kd kd' : Nat → Bool} (h : uGo S kd S1 kd') (e : S2.1 = S1.1 ∧ S2.2.1 = S1.2.1 ∧ S2.2.2.2.1 = S1.2.2.2.1) : uGo S kd S2 kd' := by
  obtain ⟨e1, e2, e3⟩ := e
  unfold uGo usg ts_ok ts_le uG at *
  rw [e1, e2, e3]; exact h
theorem tJoin_good {S S' : ts} {kd : Nat → Bool} (h : usg S kd) {r1 r2 : ev} (hw1 : uwf (uG S kd) true r1) (hw2 : uwf (uG S kd) true r2) (hs1 : uap S.2.1 r1 = r1) (hs2 : uap S.2.1 r2 = r2)
    {f1 f2 : Nat → Option ev} (hf1 : ∀ l, f1 l = uget r1 l) (hf2 : ∀ l, f2 l = uget r2 l) {own its : Int32} (ho : ∀ l, l < 10 → uhs own l = ((uget r1 l).isSome && !(uget r2 l).isSome)) (hi : ∀ l, l < 10 → uhs its l = ((uget r2 l).isSome && !(uget r1 l).isSome))
    (hne : ∀ v, uend r1 = some v → uend r2 = some v → False) (hT1 : ∀ w, uend r2 = some w → ∀ l, l < 10 → uhs (S.2.2.2.1 w) l = true → uhs own l = false) (hT2 : ∀ v, uend r1 = some v → ∀ l, l < 10 → uhs (S.2.2.2.1 v) l = true → uhs its l = false)
    (hj : tJoin S f1 f2 (uend r1) (uend r2) own its = .inr S') : ∃ kd', uGo S kd S' kd' ∧ ∃ en, urow en ∧ (∀ l, uget en l = none) ∧ (uend r1 = none ∨ uend r2 = none → en = .natCast 0) ∧
      (∀ v, uend r1 = some v → uap S'.2.1 (.var v) = uap S'.2.1 (usome f2 its en 10)) ∧ ∀ w, uend r2 = some w → uap S'.2.1 (.var w) = uap S'.2.1 (usome f1 own en 10) := by
  obtain ⟨a1, a2, a3, a4⟩ := hw1.row
  obtain ⟨b1, b2, b3, b4⟩ := hw2.row
  unfold tJoin at hj
  cases e1 : uend r1 with
  | none =>
    cases e2 : uend r2 with
    | none =>
      rw [e1, e2] at hj
      cases hj
      exact ⟨kd, uGo.rf h, .natCast 0, rfl, fun _ => rfl, fun _ => rfl, fun v hv => (by cases hv), fun v hv => (by cases hv)⟩
    | some w =>
      rw [e1, e2] at hj
      obtain ⟨S1, c1, hj⟩ := te_b_inr hj
      obtain ⟨S2, c2, hj⟩ := te_b_inr hj
      cases c2
      obtain ⟨S3, c3, hj⟩ := te_b_inr hj
      cases hj
      obtain ⟨d1, d2⟩ := b4 w e2
      have hU : uwf (uG S kd) true (usome f1 own (.natCast 0) 10) := uwf_some 10 _ (Nat.le_refl _) rfl (fun l t hl hx ht => by rw [hf1] at ht; exact ⟨(a3 l t ht).2.1, rfl, fun v hv => (by cases hv)⟩)
      obtain ⟨g1, g2, -⟩ := tClose_good h d1 d2 (h.1.root hs2 (uend_oc e2)) hU rfl rfl (fun _ => rfl) (hT1 w e2) (fun u hu => (by cases hu)) c1
      have hl := like_if c3
      refine ⟨kd, g1.same hl, .natCast 0, rfl, fun _ => rfl, fun _ => rfl, fun v hv => (by cases hv), fun v hv => ?_⟩
      cases hv; rw [hl.2.1]; exact g2
  | some v =>
    obtain ⟨k1, k2⟩ := a4 v e1
    have hvr := h.1.root hs1 (uend_oc e1)
    cases e2 : uend r2 with
    | none =>
      rw [e1, e2] at hj
      obtain ⟨S1, c1, hj⟩ := te_b_inr hj
      cases c1
      obtain ⟨S2, c2, hj⟩ := te_b_inr hj
      obtain ⟨S3, c3, hj⟩ := te_b_inr hj
      cases c3
      have hU : uwf (uG S kd) true (usome f2 its (.natCast 0) 10) := uwf_some 10 _ (Nat.le_refl _) rfl (fun l t hl hx ht => by rw [hf2] at ht; exact ⟨(b3 l t ht).2.1, rfl, fun v hv => (by cases hv)⟩)
      obtain ⟨g1, g2, -⟩ := tClose_good h k1 k2 hvr hU rfl rfl (fun _ => rfl) (hT2 v e1) (fun u hu => (by cases hu)) c2
      have hl := like_if hj
      refine ⟨kd, g1.same hl, .natCast 0, rfl, fun _ => rfl, fun _ => rfl, fun w hw => ?_, fun v hv => (by cases hv)⟩
      cases hw; rw [hl.2.1]; exact g2
    | some w =>
      obtain ⟨d1, d2⟩ := b4 w e2
      have hwr := h.1.root hs2 (uend_oc e2)
      have hvw : v ≠ w := fun e => by subst e; exact hne v e1 e2
      rw [e1, e2] at hj
      obtain ⟨S1, c1, hj⟩ := te_b_inr hj
      obtain ⟨S2, c2, hj⟩ := te_b_inr hj
      obtain ⟨S3, c3, hj⟩ := te_b_inr hj
      dsimp only at c1 c2
      have g0 := h.new (umi (S.2.2.2.2 v) (S.2.2.2.2 w)) (S.2.2.1 v || S.2.2.1 w) (S.2.2.2.1 v ||| S.2.2.2.1 w) true
      have k1 : v < S.1 := k1
      have d1 : w < S.1 := d1
      have hlc : ∀ u, u < S.1 → (ts_new S (umi (S.2.2.2.2 v) (S.2.2.2.2 w)) (S.2.2.1 v || S.2.2.1 w) (S.2.2.2.1 v ||| S.2.2.2.1 w)).2.2.2.1 u = S.2.2.2.1 u := fun u hu => if_neg (by omega)
      have hln : (ts_new S (umi (S.2.2.2.2 v) (S.2.2.2.2 w)) (S.2.2.1 v || S.2.2.1 w) (S.2.2.2.1 v ||| S.2.2.2.1 w)).2.2.2.1 S.1 = S.2.2.2.1 v ||| S.2.2.2.1 w := if_pos rfl
      have hn : S.2.1 S.1 = .var S.1 := h.2.2 S.1 (Nat.le_refl _)
      have hU1 : uwf (uG (ts_new S (umi (S.2.2.2.2 v) (S.2.2.2.2 w)) (S.2.2.1 v || S.2.2.1 w) (S.2.2.2.1 v ||| S.2.2.2.1 w)) (fun u => if u = S.1 then true else kd u)) true (usome f1 own (.var S.1) 10) :=
        uwf_some 10 _ (Nat.le_refl _) ⟨Nat.lt_succ_self _, if_pos rfl⟩ (fun l t hl hx ht => by
          rw [hf1] at ht
          obtain ⟨z1, z2, z3⟩ := a3 l t ht
          refine ⟨z2.mono g0.1, rfl, fun u hu => ?_⟩
          simp only [uend, Option.some.injEq] at hu; subst hu
          refine (congrArg (fun z9 => uhs z9 l) hln).trans ?_
          rw [uhs_or z1, show uhs (S.2.2.2.1 v) l = true from z3 v e1]; rfl)
      have hU2 : uwf (uG (ts_new S (umi (S.2.2.2.2 v) (S.2.2.2.2 w)) (S.2.2.1 v || S.2.2.1 w) (S.2.2.2.1 v ||| S.2.2.2.1 w)) (fun u => if u = S.1 then true else kd u)) true (usome f2 its (.var S.1) 10) :=
        uwf_some 10 _ (Nat.le_refl _) ⟨Nat.lt_succ_self _, if_pos rfl⟩ (fun l t hl hx ht => by
          rw [hf2] at ht
          obtain ⟨z1, z2, z3⟩ := b3 l t ht
          refine ⟨z2.mono g0.1, rfl, fun u hu => ?_⟩
          simp only [uend, Option.some.injEq] at hu; subst hu
          refine (congrArg (fun z9 => uhs z9 l) hln).trans ?_
          rw [uhs_or z1, show uhs (S.2.2.2.1 w) l = true from z3 w e2, Bool.or_true])
      have kv : (if v = S.1 then true else kd v) = true := by rw [if_neg (by omega)]; exact k2
      have kw : (if w = S.1 then true else kd w) = true := by rw [if_neg (by omega)]; exact d2
      obtain ⟨g1, g2, g3⟩ := tClose_good g0.2.1 (v := w) (Nat.lt_succ_of_lt d1) kw hwr hU1 trivial hn (fun _ => rfl) (fun k h1 h2 => hT1 w e2 k h1 (by rw [← hlc w d1]; exact h2)) (fun u hu k h1 h2 => by
        simp only [uend, Option.some.injEq] at hu; subst hu
        rw [hlc w d1] at h2; rw [hln, uhs_or h1, h2, Bool.or_true]) c1
      have e9 : S1.2.2.2.1 = (ts_new S (umi (S.2.2.2.2 v) (S.2.2.2.2 w)) (S.2.2.1 v || S.2.2.1 w) (S.2.2.2.1 v ||| S.2.2.2.1 w)).2.2.2.1 ∧ S1.1 = S.1 + 1 := by
        unfold tClose at c1; split at c1
        · cases c1
        · cases c1; exact ⟨rfl, rfl⟩
      obtain ⟨g4, g5, -⟩ := tClose_good g1.2.1 (v := v) (by rw [e9.2]; omega) kv (g3 v hvw hvr) (hU2.mono g1.1) trivial (g3 S.1 (by omega) hn) (fun _ => rfl) (fun k h1 h2 => hT2 v e1 k h1 (by rw [e9.1, hlc v k1] at h2; exact h2)) (fun u hu k h1 h2 => by
        simp only [uend, Option.some.injEq] at hu; subst hu
        rw [e9.1, hlc v k1] at h2; rw [e9.1, hln, uhs_or h1, h2]; rfl) c2
      have hl1 := like_if c3
      have hl2 := like_if hj
      have g9 : uGo S kd S' (fun u => if u = S.1 then true else kd u) := ((g0.trans g1).trans g4).same ⟨hl2.1.trans hl1.1, hl2.2.1.trans hl1.2.1, hl2.2.2.trans hl1.2.2⟩
      refine ⟨_, g9, .var S.1, trivial, fun _ => rfl, fun h9 => (by rcases h9 with h9 | h9 <;> cases h9), fun u hu => ?_, fun u hu => ?_⟩
      · cases hu; rw [hl2.2.1, hl1.2.1]; exact g5
      · cases hu; rw [hl2.2.1, hl1.2.1, ← g4.2.2 (.var w), g2, g4.2.2]
