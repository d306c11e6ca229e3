/-! ===== pt_ok is kept when a term is made ===== -/
set_option maxRecDepth 100000
/-- parts are older -/
def pt_old (T : List pt_R) : Prop := ∀ (k : Nat) (r : pt_R), T[k]? = some r → ∀ j ∈ r.2.2.2.1, j < k
theorem pt_old.push {T : List pt_R} {r : pt_R} (h : pt_old T) (hr : ∀ j ∈ r.2.2.2.1, j < T.length) : pt_old (T ++ [r]) := by
  intro k r' hk j hj
  rcases pt_at hk with ⟨h1, h2⟩ | ⟨rfl, rfl⟩
  · exact h k r' h2 j hj
  · exact hr j hj
theorem pt_ok_nil : pt_ok [] := fun k r h => by simp at h
theorem pt_old_nil : pt_old [] := fun k r h => by simp at h
theorem pt_ok.push {T : List pt_R} {r : pt_R} (h : pt_ok T) (ho : pt_old T) (hr : ∀ j ∈ r.2.2.2.1, j < T.length) (h17 : r.1 = 17 → (0 ≤ r.2.1 ∧ r.2.1 ≤ 9) ∧ 0 ≤ r.2.2.1 ∧ r.2.2.1 ≤ 9) (h15 : r.1 = 15 → r.2.2.2.1 = [])
    (hc : (r.1 = 11 ∨ r.1 = 17) → ∀ j r', r.2.2.2.1[1]? = some j → T[j]? = some r' → r'.1 = 15 ∨ r'.1 = 16 ∨ r'.1 = 17) (h10 : r.1 = 10 → nN r.2.1 ≤ 9) : pt_ok (T ++ [r]) := by
  intro k r' hk
  rcases pt_at hk with ⟨h1, h2⟩ | ⟨rfl, rfl⟩
  · obtain ⟨a, b, c, d⟩ := h k r' h2
    refine ⟨a, b, fun j r9 he hj h9 => ?_, d⟩
    have hj2 := ho k r' h2 j (List.mem_of_getElem? hj)
    rw [List.getElem?_append_left (by omega)] at h9
    exact c j r9 he hj h9
  · refine ⟨h17, h15, fun j r9 he hj h9 => ?_, h10⟩
    have hj2 := hr j (List.mem_of_getElem? hj)
    rw [List.getElem?_append_left hj2] at h9
    exact hc he j r9 hj h9

