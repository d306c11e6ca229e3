/-! ===== join, whole ===== -/
set_option maxRecDepth 100000
theorem d_X1_join (l : Launch) (Z : mm_G) {M : mm_M} (htr : l.stackTraces = false) {L : List Nat} {vr : Nat → Nat} {S : ts} {f1 f2 : Nat → Option ev} {own its lb1 lb2 : Int32} {one other : Nat} (hC : uCI Z M L vr S) (hs1 : ∀ l, l < 10 → uhs own l = true → f1 l ≠ none) (hs2 : ∀ l, l < 10 → uhs its l = true → f2 l ≠ none) {e1 e2 : Option Nat} {Hh b9 : Nat}
    (hne : e1 ≠ none ∨ e2 ≠ none) (hdf : ∀ v, e1 = some v → e2 ≠ some v) (h1 : uFA Z M L vr S one f1 lb1 e1) (h2 : uFA Z M L vr S other f2 lb2 e2) (hB9 : uB Z M L vr S b9) (hH : 2 * b9 + 3 ≤ Hh) : mm_D l Z yX1_join (ws_ yX1_join cX1_join 5 none) { frames := Hh + L.length + 21, cells := 31, slots := 100, locals := 25 * Hh + 20 * L.length + 920 } [.ref one, .ref other, .int own, .int its] M (jP Z M L vr S (tJoin S f1 f2 e1 e2 own its) e1 e2) (fun E q M' => ∃ er, (tJoin S f1 f2 e1 e2 own its) = .inl er ∧ uX M er E q M') := by
  cases e1 with
  | none => cases e2 with
    | none => exact absurd rfl (hne.elim (fun h => h) (fun h => h))
    | some w => exact d_X1_join_2 l Z htr hC hs1 hs2 h1 h2 hB9 hH
  | some v => cases e2 with
    | none => exact d_X1_join_1 l Z htr hC hs1 hs2 h1 h2 hB9 hH
    | some w => exact d_X1_join_3 l Z htr hC hs1 hs2 (fun e => hdf v rfl (by rw [e])) h1 h2 hB9 hH
