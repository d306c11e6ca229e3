/-! ===== new cells of types ===== -/
set_option maxRecDepth 100000
/-- one more cell: q -/
theorem uCI.grow {Z : mm_G} {M M' : mm_M} {L : List Nat} {vr vr' : Nat → Nat} {S S' : ts} (hC : uCI Z M L vr S) (hx : mm_Ext M M') {q : Nat} (hq : M q = none) (h1 : S.1 ≤ S'.1) (h2 : S'.2.1 = S.2.1) (hvr : ∀ v, v < S.1 → vr' v = vr v) (hinj : ∀ u v, u < S'.1 → v < S'.1 → vr' u = vr' v → u = v)
    (hv : ∀ v, v < S'.1 → vr' v ∈ q :: L ∧ ((∃ bd, M' (vr' v) = some (co_E bd (S'.2.2.2.2 v) (S'.2.2.1 v)) ∧ (bd = none ↔ S.2.1 v = .var v)) ∨ ∃ bd, M' (vr' v) = some (cr_E bd (S'.2.2.2.2 v) (S'.2.2.1 v) (S'.2.2.2.1 v)) ∧ (bd = none ↔ S.2.1 v = .var v)))
    (htq : ∃ m t, tp Z M' (q :: L) vr' S'.1 t m q) (hn : unext M' q = none) : uCI Z M' (q :: L) vr' S' ∧ uPhi M' (q :: L) = uPhi M L + 1 := by
  obtain ⟨⟨c1, c2, c3, c4, c5⟩, d1, d2, ⟨rk, d3⟩, d4, d5⟩ := hC
  have mono : ∀ t m a, tp Z M L vr S.1 t m a → tp Z M' (q :: L) vr' S'.1 t m a := fun t m a h => tp.mono hx.uK (fun _ h => List.mem_cons_of_mem _ h) hvr h1 t m a h
  have hold : ∀ a, a ∈ L → M a ≠ none := fun a ha => by
    obtain ⟨m, t, h⟩ := d2 a ha
    obtain ⟨e, he⟩ := h.some
    rw [he]; exact fun h9 => by cases h9
  have hqL : q ∉ L := fun h => hold q h hq
  have hnx : ∀ a, M a ≠ none → unext M' a = unext M a := fun a h => by unfold unext; rw [hx a h]
  have hphi : uPhi M' (q :: L) = uPhi M L + 1 := by
    unfold uPhi
    rw [List.countP_cons_of_pos (by rw [hn]; rfl)]
    rw [List.countP_congr (fun a ha => by rw [hnx a (hold a ha)])]
  refine ⟨⟨⟨by unfold ts_ok; rw [h2]; exact c1, List.nodup_cons.2 ⟨hqL, c2⟩, hinj, by rw [h2]; exact fun v h => c4 v (by omega), fun v hv9 u hu => ?_⟩, fun v h => by rw [h2]; exact hv v h, fun a ha => ?_, ⟨fun a => if a = q then 0 else rk a, fun a ha => ?_⟩, hx.at d4, hx.at d5⟩, hphi⟩
  · rw [h2] at hu
    by_cases h : v < S.1
    · exact Nat.lt_of_lt_of_le (c5 v h u hu) h1
    · rw [c4 v (by omega)] at hu
      simp only [uoc, beq_iff_eq] at hu
      rw [← hu]; exact hv9
  · rcases List.mem_cons.1 ha with rfl | ha
    · exact htq
    · obtain ⟨m, t, h⟩ := d2 a ha
      exact ⟨m, t, mono _ _ _ h⟩
  · rw [hphi]
    rcases List.mem_cons.1 ha with rfl | ha
    · refine ⟨?_, fun o ho => ?_⟩
      · dsimp only; rw [if_pos rfl, List.length_cons]; have := uPhi_le M L; omega
      · rw [hn] at ho; cases ho
    · have haq : a ≠ q := fun h => hqL (h ▸ ha)
      refine ⟨?_, fun o ho => ?_⟩
      · dsimp only; rw [if_neg haq, List.length_cons]; have := (d3 a ha).1; omega
      · rw [hnx a (hold a ha)] at ho
        obtain ⟨e1, m2, t2, t3, e2, e3, e4⟩ := (d3 a ha).2 o ho
        refine ⟨fun hoL => ?_, m2, t2, t3, mono _ _ _ e2, mono _ _ _ e3, by rw [h2]; exact e4⟩
        have hoq : o ≠ q := fun h => by
          obtain ⟨e, he⟩ := e3.some
          rw [h, hq] at he; cases he
        dsimp only
        rw [if_neg haq, if_neg hoq]
        exact e1 ((List.mem_cons.1 hoL).resolve_left hoq)
def uvr (vr : Nat → Nat) (n q : Nat) : Nat → Nat := fun u => if u = n then q else vr u
theorem uvr_lt {vr : Nat → Nat} {n q v : Nat} (h : v < n) : uvr vr n q v = vr v := if_neg (by omega)
theorem uvr_n {vr : Nat → Nat} {n q : Nat} : uvr vr n q n = q := if_pos rfl
/-- a new variable (rw: a row's) -/
theorem uCI.newVar {Z : mm_G} {M M' : mm_M} {L : List Nat} {vr : Nat → Nat} {S : ts} (hC : uCI Z M L vr S) (hx : mm_Ext M M') {q : Nat} (hq : M q = none) {lv lc : Int32} {lk : Bool} (h : M' q = some (co_E none lv lk) ∨ M' q = some (cr_E none lv lk lc)) : uCI Z M' (q :: L) (uvr vr S.1 q) (ts_new S lv lk lc) ∧ uPhi M' (q :: L) = uPhi M L + 1 := by
  have hold : ∀ v, v < S.1 → vr v ≠ q := fun v hv h9 => by
    rcases (hC.2.1 v hv).2 with ⟨bd, h2, -⟩ | ⟨bd, h2, -⟩ <;> (rw [h9, hq] at h2; cases h2)
  refine hC.grow hx hq (Nat.le_succ _) rfl (fun v hv => uvr_lt hv) ?_ ?_ ?_ ?_
  · intro u v hu hv h9
    have hu : u < S.1 + 1 := hu
    have hv : v < S.1 + 1 := hv
    by_cases h1 : u = S.1
    · by_cases h2 : v = S.1
      · rw [h1, h2]
      · rw [h1, uvr_n, uvr_lt (by omega)] at h9
        exact absurd h9.symm (hold v (by omega))
    · by_cases h2 : v = S.1
      · rw [h2, uvr_n, uvr_lt (by omega)] at h9
        exact absurd h9 (hold u (by omega))
      · rw [uvr_lt (by omega), uvr_lt (by omega)] at h9
        exact hC.1.2.2.1 u v (by omega) (by omega) h9
  · intro v hv
    have hv : v < S.1 + 1 := hv
    by_cases h1 : v = S.1
    · subst h1
      rw [uvr_n]
      refine ⟨List.mem_cons_self, ?_⟩
      have e1 : (ts_new S lv lk lc).2.2.2.2 S.1 = lv := if_pos rfl
      have e2 : (ts_new S lv lk lc).2.2.1 S.1 = lk := if_pos rfl
      have e3 : (ts_new S lv lk lc).2.2.2.1 S.1 = lc := if_pos rfl
      rw [e1, e2, e3]
      have e4 : S.2.1 S.1 = .var S.1 := hC.1.2.2.2.1 _ (Nat.le_refl _)
      rcases h with h | h
      · exact Or.inl ⟨none, h, fun _ => e4, fun _ => rfl⟩
      · exact Or.inr ⟨none, h, fun _ => e4, fun _ => rfl⟩
    · have hlt : v < S.1 := by omega
      rw [uvr_lt hlt]
      refine ⟨List.mem_cons_of_mem _ (hC.2.1 v hlt).1, ?_⟩
      have e1 : (ts_new S lv lk lc).2.2.2.2 v = S.2.2.2.2 v := if_neg h1
      have e2 : (ts_new S lv lk lc).2.2.1 v = S.2.2.1 v := if_neg h1
      have e3 : (ts_new S lv lk lc).2.2.2.1 v = S.2.2.2.1 v := if_neg h1
      rw [e1, e2, e3]
      rcases (hC.2.1 v hlt).2 with ⟨bd, h2, h3⟩ | ⟨bd, h2, h3⟩
      · exact Or.inl ⟨bd, hx.at h2, h3⟩
      · exact Or.inr ⟨bd, hx.at h2, h3⟩
  · rcases h with h | h
    · exact ⟨false, .var S.1, by unfold tp; exact ⟨Nat.lt_succ_self _, uvr_n.symm, List.mem_cons_self, _, _, _, h⟩⟩
    · exact ⟨true, .var S.1, by unfold tp; exact ⟨Nat.lt_succ_self _, uvr_n.symm, List.mem_cons_self, _, _, _, _, h⟩⟩
  · rcases h with h | h
    · exact unext_co h
    · exact unext_cr h
/-- a new function, a new record or variant -/
theorem uCI.newObj {Z : mm_G} {M M' : mm_M} {L : List Nat} {vr : Nat → Nat} {S : ts} (hC : uCI Z M L vr S) (hx : mm_Ext M M') {q : Nat} (hq : M q = none) (h : (∃ (f g : Nat) (x y : ev), M' q = some (cf_E (some f) (some g) none none none) ∧ tp Z M L vr S.1 x false f ∧ tp Z M L vr S.1 y false g) ∨ ∃ (iv : Bool) (w : Nat) (r : ev), M' q = some (cb_E iv (some w) none none none) ∧ tp Z M L vr S.1 r true w) : uCI Z M' (q :: L) vr S ∧ uPhi M' (q :: L) = uPhi M L + 1 := by
  have mono : ∀ t m a, tp Z M L vr S.1 t m a → tp Z M' (q :: L) vr S.1 t m a := fun t m a h => tp.mono hx.uK (fun _ h => List.mem_cons_of_mem _ h) (fun _ _ => rfl) (Nat.le_refl _) t m a h
  refine hC.grow hx hq (Nat.le_refl _) rfl (fun _ _ => rfl) hC.1.2.2.1 (fun v hv => ⟨List.mem_cons_of_mem _ (hC.2.1 v hv).1, ?_⟩) ?_ ?_
  · rcases (hC.2.1 v hv).2 with ⟨bd, h2, h3⟩ | ⟨bd, h2, h3⟩
    · exact Or.inl ⟨bd, hx.at h2, h3⟩
    · exact Or.inr ⟨bd, hx.at h2, h3⟩
  · rcases h with ⟨f, g, x, y, h1, h2, h3⟩ | ⟨iv, w, r, h1, h2⟩
    · exact ⟨false, .sub x y, by unfold tp; exact ⟨f, g, _, _, _, List.mem_cons_self, h1, mono _ _ _ h2, mono _ _ _ h3⟩⟩
    · exact ⟨false, .pow r iv.toNat, by unfold tp; exact ⟨iv, w, _, _, _, List.mem_cons_self, rfl, h1, mono _ _ _ h2⟩⟩
  · rcases h with ⟨f, g, x, y, h1, -⟩ | ⟨iv, w, r, h1, -⟩
    · exact unext_cf h1
    · exact unext_cb h1
/-- a row variable that ends its chain -/
theorem uCI.rootR {Z : mm_G} {M : mm_M} {L : List Nat} {vr : Nat → Nat} {S : ts} (hC : uCI Z M L vr S) {v : Nat} (hv : v < S.1) (ht : tp Z M L vr S.1 (.var v) true (vr v)) (hn : unext M (vr v) = none) : M (vr v) = some (cr_E none (S.2.2.2.2 v) (S.2.2.1 v) (S.2.2.2.1 v)) ∧ S.2.1 v = .var v := by
  simp only [tp] at ht
  obtain ⟨-, -, -, bd, lv, lk, lc, h1⟩ := ht
  rcases (hC.2.1 v hv).2 with ⟨bd2, h2, -⟩ | ⟨bd2, h2, h3⟩
  · rw [h1] at h2; simp at h2
  · rw [unext_cr h2] at hn; subst hn; exact ⟨h2, h3.1 rfl⟩
