/-! ===== what is the same stays ===== -/
set_option maxRecDepth 100000
/-- the same types are left alone -/
theorem tLabs_same {U : ts → ev → ev → Option te} {S : ts} {f : Nat → Option ev} (hU : ∀ l x r, f l = some x → U S x x = some r → r = .inr S) {b : Int32} : ∀ (k : Nat) (r : te), tLabs U f f b k S = some r → r = .inr S
  | 0, r, h => by cases h; rfl
  | k + 1, r, h => by
    unfold tLabs at h
    split at h
    · split at h
      · rename_i x y e1 e2
        rw [e1] at e2; cases e2
        cases h9 : U S x x with
        | none => rw [h9] at h; cases h
        | some r9 =>
          have h8 := hU _ x r9 e1 h9
          subst h8
          rw [h9] at h
          exact tLabs_same hU k r h
      · cases h
    · exact tLabs_same hU k r h
theorem and_not_self (x : Int32) : x &&& (x ^^^ (-1)) = 0 := by
  apply Int32.toBitVec_inj.1
  rw [Int32.toBitVec_and, Int32.toBitVec_xor]
  have : (-1 : Int32).toBitVec = BitVec.allOnes 32 := by decide
  rw [this, BitVec.xor_allOnes, BitVec.and_not_self]
  rfl
theorem tRows_same {U : ts → ev → ev → Option te} {S : ts} {R : ev} (hU : ∀ l x r, (ufl R (fun _ => none) 0).1 l = some x → U S x x = some r → r = .inr S) {r : te} (h : tRows U S R R = some r) : r = .inr S := by
  unfold tRows at h
  simp only [and_not_self, true_or, and_self, not_true_eq_false, if_false] at h
  have h0 : ((0 : Int32) ||| 0) = 0 := by decide
  cases e : (ufl R (fun _ => none) 0).2.2 with
  | none =>
    rw [e] at h
    simp only [ne_eq, not_true_eq_false, false_and, if_false, or_self] at h
    exact tLabs_same hU 10 r h
  | some v =>
    rw [e] at h
    simp only [ne_eq, reduceCtorEq, not_false_eq_true, and_self, if_true, h0] at h
    exact tLabs_same hU 10 r h
theorem tU_same : ∀ (n : Nat) (S : ts) (kd : Nat → Bool) (x y : ev) (r : te), usg S kd → uwf (uG S kd) false (uap S.2.1 x) → uap S.2.1 x = uap S.2.1 y → tU n S x y = some r → r = .inr S
  | 0, S, kd, x, y, r, _, _, _, h => by cases h
  | n + 1, S, kd, x, y, r, hS, hw, he, h => by
    have hs : ∀ (x : ev) (r : te), tU n S x x = some r → uwf (uG S kd) false (uap S.2.1 x) → r = .inr S := fun x r h1 h2 => tU_same n S kd x x r hS h2 rfl h1
    have rt : uap S.2.1 (uap S.2.1 x) = uap S.2.1 x := hS.1.le x
    unfold tU at h
    rw [← he] at h
    generalize uap S.2.1 x = T at h hw rt
    match T, hw with
    | .natCast k, _ => cases h; rfl
    | .var v, _ => simp only [if_true] at h; cases h; rfl
    | .sub a b, hw =>
      simp only [uwf] at hw
      simp only [uap, Lean.Grind.CommRing.Expr.sub.injEq] at rt
      dsimp only at h
      cases h1 : tU n S a a with
      | none => rw [h1] at h; cases h
      | some r1 =>
        have h2 := hs a r1 h1 (by rw [rt.1]; exact hw.1)
        subst h2
        rw [h1] at h
        exact hs b r h (by rw [rt.2]; exact hw.2)
    | .pow R k, hw =>
      simp only [uwf] at hw
      simp only [uap, Lean.Grind.CommRing.Expr.pow.injEq, and_true] at rt
      simp only [if_true] at h
      refine tRows_same (fun l x r hx hr => hs x r hr ?_) h
      obtain ⟨p1, -, -⟩ := ufl_spec hw (fun _ => none) 0
      rw [p1 l] at hx
      simp only [Option.or_none] at hx
      exact ((hw.row.2.2.1 l x hx).2.1).ap hS.2.1
