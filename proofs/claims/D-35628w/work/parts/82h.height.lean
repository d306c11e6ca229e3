/-! ===== how high types are ===== -/
set_option maxRecDepth 100000
theorem nodup_sub : ∀ {P L : List Nat}, P.Nodup → (∀ p ∈ P, p ∈ L) → P.length ≤ L.length
  | [], _, _, _ => Nat.zero_le _
  | p :: P, L, hP, h => by
    have hp := h p List.mem_cons_self
    have h1 : P.length ≤ (L.erase p).length := nodup_sub (List.nodup_cons.1 hP).2 (fun q hq => (List.mem_erase_of_ne (fun e => by subst e; exact (List.nodup_cons.1 hP).1 hq)).2 (h q (List.mem_cons_of_mem _ hq)))
    rw [List.length_erase_of_mem hp] at h1
    have h2 : 0 < L.length := List.length_pos_of_mem hp
    simp only [List.length_cons]; omega
/-- the cells on the way down to the lowest part -/
theorem uCI.path {Z : mm_G} {M : mm_M} {L : List Nat} {vr : Nat → Nat} {S : ts} (hC : uCI Z M L vr S) : ∀ (N : Nat) (t : ev) (m : Bool) (a : Nat), SizeOf.sizeOf (uap S.2.1 t) < N → tp Z M L vr S.1 t m a →
    ∃ P : List Nat, P.Nodup ∧ (∀ p ∈ P, p ∈ L ∧ unext M p = none ∧ ∃ m t', tp Z M L vr S.1 t' m p ∧ SizeOf.sizeOf (uap S.2.1 t') ≤ SizeOf.sizeOf (uap S.2.1 t)) ∧ uh (uap S.2.1 t) ≤ 2 * P.length + m.toNat := by
  intro N
  induction N with
  | zero => intro t m a h; omega
  | succ N ih =>
    intro t m a hz ht
    have put : ∀ (b : Nat) (t' : ev) (mm : Bool), tp Z M L vr S.1 t' mm b → uap S.2.1 t' = uap S.2.1 t → b ∈ L → unext M b = none → ∀ (x : ev) (mx : Bool) (ax : Nat), tp Z M L vr S.1 x mx ax → SizeOf.sizeOf (uap S.2.1 x) < SizeOf.sizeOf (uap S.2.1 t) →
        ∃ P : List Nat, P.Nodup ∧ (∀ p ∈ P, p ∈ L ∧ unext M p = none ∧ ∃ m t', tp Z M L vr S.1 t' m p ∧ SizeOf.sizeOf (uap S.2.1 t') ≤ SizeOf.sizeOf (uap S.2.1 t)) ∧ uh (uap S.2.1 x) + 2 ≤ 2 * P.length + mx.toNat := by
      intro b t' mm hb he hbL hbn x mx ax hx hsx
      obtain ⟨P, h1, h2, h3⟩ := ih x mx ax (by omega) hx
      refine ⟨b :: P, List.nodup_cons.2 ⟨fun hbP => ?_, h1⟩, fun p hp => ?_, by simp only [List.length_cons]; omega⟩
      · obtain ⟨-, -, m9, t9, h4, h5⟩ := h2 b hbP
        obtain ⟨rfl, -⟩ := tp.uniq hC.1.2.2.1 _ _ _ _ _ hb h4
        rw [he] at h5; omega
      · rcases List.mem_cons.1 hp with rfl | hp
        · exact ⟨hbL, hbn, mm, t', hb, by rw [he]; exact Nat.le_refl _⟩
        · obtain ⟨k1, k2, m9, t9, k3, k4⟩ := h2 p hp
          exact ⟨k1, k2, m9, t9, k3, by omega⟩
    cases m with
    | false =>
      obtain ⟨d, b, t', -, -, hb, he, hcs⟩ := hC.nowT ht
      rcases hcs with ⟨h1, -, -⟩ | ⟨v, -, h1, -⟩ | ⟨x, y, f, g, bq, rn, h1, hbL, hMb, hx, hy⟩ | ⟨r, iv, w, bq, rn, h1, hbL, hMb, hr⟩
      · exact ⟨[], List.nodup_nil, fun p hp => absurd hp List.not_mem_nil, by rw [h1]; simp [uh]⟩
      · exact ⟨[], List.nodup_nil, fun p hp => absurd hp List.not_mem_nil, by rw [h1]; simp [uh]⟩
      · have z1 : SizeOf.sizeOf (uap S.2.1 t) = 1 + SizeOf.sizeOf (uap S.2.1 x) + SizeOf.sizeOf (uap S.2.1 y) := by rw [h1]; rfl
        have hh : uh (uap S.2.1 t) = max (uh (uap S.2.1 x)) (uh (uap S.2.1 y)) + 1 := by rw [h1]; rfl
        by_cases hc : uh (uap S.2.1 x) ≤ uh (uap S.2.1 y)
        · obtain ⟨P, p1, p2, p3⟩ := put b t' false hb he hbL (unext_cf hMb) y false g hy (by omega)
          exact ⟨P, p1, p2, by simp only [Bool.toNat_false] at p3 ⊢; omega⟩
        · obtain ⟨P, p1, p2, p3⟩ := put b t' false hb he hbL (unext_cf hMb) x false f hx (by omega)
          exact ⟨P, p1, p2, by simp only [Bool.toNat_false] at p3 ⊢; omega⟩
      · have z1 : SizeOf.sizeOf (uap S.2.1 t) = 1 + SizeOf.sizeOf (uap S.2.1 r) + SizeOf.sizeOf iv.toNat := by rw [h1]; rfl
        have hh : uh (uap S.2.1 t) = uh (uap S.2.1 r) + 1 := by rw [h1]; rfl
        obtain ⟨P, p1, p2, p3⟩ := put b t' false hb he hbL (unext_cb hMb) r true w hr (by omega)
        exact ⟨P, p1, p2, by simp only [Bool.toNat_false, Bool.toNat_true] at p3 ⊢; omega⟩
    | true =>
      obtain ⟨d, b, t', -, -, hb, he, hcs⟩ := hC.nowR ht
      rcases hcs with ⟨h1, -, -⟩ | ⟨v, -, h1, -⟩ | ⟨x, k, r, ty, rs, h1, -, hMb, hx, hr⟩
      · exact ⟨[], List.nodup_nil, fun p hp => absurd hp List.not_mem_nil, by rw [h1]; simp [uh]⟩
      · exact ⟨[], List.nodup_nil, fun p hp => absurd hp List.not_mem_nil, by rw [h1]; simp [uh]⟩
      · have z1 := uins_size (l := k) (t := uap S.2.1 x) (uap S.2.1 r)
        have hh := uins_h (l := k) (t := uap S.2.1 x) (uap S.2.1 r)
        rw [← h1] at z1 hh
        by_cases hc : uh (uap S.2.1 x) + 1 ≤ uh (uap S.2.1 r)
        · obtain ⟨P, p1, p2, p3⟩ := ih r true rs (by omega) hr
          exact ⟨P, p1, fun p hp => by obtain ⟨k1, k2, m9, t9, k3, k4⟩ := p2 p hp; exact ⟨k1, k2, m9, t9, k3, by omega⟩, by simp only [Bool.toNat_true] at p3 ⊢; omega⟩
        · obtain ⟨P, p1, p2, p3⟩ := ih x false ty (by omega) hx
          exact ⟨P, p1, fun p hp => by obtain ⟨k1, k2, m9, t9, k3, k4⟩ := p2 p hp; exact ⟨k1, k2, m9, t9, k3, by omega⟩, by simp only [Bool.toNat_true, Bool.toNat_false] at p3 ⊢; omega⟩
theorem uCI.height {Z : mm_G} {M : mm_M} {L : List Nat} {vr : Nat → Nat} {S : ts} (hC : uCI Z M L vr S) {t : ev} {m : Bool} {a : Nat} (ht : tp Z M L vr S.1 t m a) : uh (uap S.2.1 t) ≤ 2 * uPhi M L + m.toNat := by
  obtain ⟨P, h1, h2, h3⟩ := hC.path _ t m a (Nat.lt_succ_self _) ht
  have h4 : P.length ≤ (L.filter fun a => (unext M a).isNone).length := nodup_sub h1 (fun p hp => List.mem_filter.2 ⟨(h2 p hp).1, by rw [(h2 p hp).2.1]; rfl⟩)
  have h5 : uPhi M L = (L.filter fun a => (unext M a).isNone).length := List.countP_eq_length_filter
  omega
/-- the types seen at L are among b many -/
def uB (Z : mm_G) (M : mm_M) (L : List Nat) (vr : Nat → Nat) (S : ts) (b : Nat) : Prop := ∃ B : List ev, B.length ≤ b ∧ ∀ a ∈ L, ∀ t, tp Z M L vr S.1 t false a → uap S.2.1 t ∈ B
theorem uB.go {Z : mm_G} {M M' : mm_M} {L L' : List Nat} {vr vr' : Nat → Nat} {S S' : ts} {b : Nat} (hC : uCI Z M L vr S) (h : uB Z M L vr S b) (hC' : uCI Z M' L' vr' S') (hK : uK M M') (hL : ∀ a ∈ L, a ∈ L') (hv : ∀ v, v < S.1 → vr' v = vr v) (hn : S.1 ≤ S'.1) (hle : ts_le S S') (hnew : ∀ a ∈ L', a ∉ L → ∀ t, ¬ tp Z M' L' vr' S'.1 t false a) : uB Z M' L' vr' S' b := by
  obtain ⟨B, h1, h2⟩ := h
  refine ⟨B.map (uap S'.2.1), by rw [List.length_map]; exact h1, fun a ha t ht => ?_⟩
  by_cases haL : a ∈ L
  · obtain ⟨m, t0, h3⟩ := hC.2.2.1 a haL
    obtain ⟨rfl, rfl⟩ := tp.uniq hC'.1.2.2.1 _ _ _ _ _ ht (tp.mono hK hL hv hn _ _ _ h3)
    rw [← hle t]
    exact List.mem_map_of_mem (h2 a haL _ h3)
  · exact absurd ht (hnew a ha haL t)
theorem uNewR {Z : mm_G} {M : mm_M} {L : List Nat} {vr : Nat → Nat} {S : ts} {q : Nat} {r : ev} (hC : uCI Z M (q :: L) vr S) (h : tp Z M (q :: L) vr S.1 r true q) : ∀ a ∈ q :: L, a ∉ L → ∀ t, ¬ tp Z M (q :: L) vr S.1 t false a := fun a h1 h2 t h3 => by
  rcases List.mem_cons.1 h1 with rfl | h1
  · have h4 := (tp.uniq hC.1.2.2.1 _ _ _ _ _ h3 h).2
    cases h4
  · exact h2 h1
theorem nodup_subE : ∀ {P L : List ev}, P.Nodup → (∀ p ∈ P, p ∈ L) → P.length ≤ L.length
  | [], _, _, _ => Nat.zero_le _
  | p :: P, L, hP, h => by
    have hp := h p List.mem_cons_self
    obtain ⟨L1, L2, e⟩ := List.append_of_mem hp
    have h1 : P.length ≤ (L1 ++ L2).length := nodup_subE (List.nodup_cons.1 hP).2 (fun q hq => by
      have h2 := h q (List.mem_cons_of_mem _ hq)
      rw [e] at h2
      simp only [List.mem_append, List.mem_cons] at h2 ⊢
      rcases h2 with h2 | h2 | h2
      · exact Or.inl h2
      · subst h2; exact absurd hq (List.nodup_cons.1 hP).1
      · exact Or.inr h2)
    rw [e]
    simp only [List.length_append, List.length_cons] at h1 ⊢
    omega
/-- the types on the way down to the lowest part -/
theorem uCI.pathB {Z : mm_G} {M : mm_M} {L : List Nat} {vr : Nat → Nat} {S : ts} (hC : uCI Z M L vr S) : ∀ (N : Nat) (t : ev) (m : Bool) (a : Nat), SizeOf.sizeOf (uap S.2.1 t) < N → tp Z M L vr S.1 t m a →
    ∃ P : List ev, P.Nodup ∧ (∀ T ∈ P, (∃ b ∈ L, ∃ t', tp Z M L vr S.1 t' false b ∧ uap S.2.1 t' = T) ∧ SizeOf.sizeOf T ≤ SizeOf.sizeOf (uap S.2.1 t)) ∧ uh (uap S.2.1 t) ≤ 2 * P.length + m.toNat := by
  intro N
  induction N with
  | zero => intro t m a h; omega
  | succ N ih =>
    intro t m a hz ht
    have put : ∀ (b : Nat) (t' : ev), tp Z M L vr S.1 t' false b → uap S.2.1 t' = uap S.2.1 t → b ∈ L → ∀ (x : ev) (mx : Bool) (ax : Nat), tp Z M L vr S.1 x mx ax → SizeOf.sizeOf (uap S.2.1 x) < SizeOf.sizeOf (uap S.2.1 t) →
        ∃ P : List ev, P.Nodup ∧ (∀ T ∈ P, (∃ b ∈ L, ∃ t', tp Z M L vr S.1 t' false b ∧ uap S.2.1 t' = T) ∧ SizeOf.sizeOf T ≤ SizeOf.sizeOf (uap S.2.1 t)) ∧ uh (uap S.2.1 x) + 2 ≤ 2 * P.length + mx.toNat := by
      intro b t' hb he hbL x mx ax hx hsx
      obtain ⟨P, h1, h2, h3⟩ := ih x mx ax (by omega) hx
      refine ⟨uap S.2.1 t :: P, List.nodup_cons.2 ⟨fun hbP => ?_, h1⟩, fun p hp => ?_, by simp only [List.length_cons]; omega⟩
      · have := (h2 _ hbP).2; omega
      · rcases List.mem_cons.1 hp with rfl | hp
        · exact ⟨⟨b, hbL, t', hb, he⟩, Nat.le_refl _⟩
        · obtain ⟨k1, k2⟩ := h2 p hp
          exact ⟨k1, by omega⟩
    cases m with
    | false =>
      obtain ⟨d, b, t', -, -, hb, he, hcs⟩ := hC.nowT ht
      rcases hcs with ⟨h1, -, -⟩ | ⟨v, -, h1, -⟩ | ⟨x, y, f, g, bq, rn, h1, hbL, hMb, hx, hy⟩ | ⟨r, iv, w, bq, rn, h1, hbL, hMb, hr⟩
      · exact ⟨[], List.nodup_nil, fun p hp => absurd hp List.not_mem_nil, by rw [h1]; simp [uh]⟩
      · exact ⟨[], List.nodup_nil, fun p hp => absurd hp List.not_mem_nil, by rw [h1]; simp [uh]⟩
      · have z1 : SizeOf.sizeOf (uap S.2.1 t) = 1 + SizeOf.sizeOf (uap S.2.1 x) + SizeOf.sizeOf (uap S.2.1 y) := by rw [h1]; rfl
        have hh : uh (uap S.2.1 t) = max (uh (uap S.2.1 x)) (uh (uap S.2.1 y)) + 1 := by rw [h1]; rfl
        by_cases hc : uh (uap S.2.1 x) ≤ uh (uap S.2.1 y)
        · obtain ⟨P, p1, p2, p3⟩ := put b t' hb he hbL y false g hy (by omega)
          exact ⟨P, p1, p2, by simp only [Bool.toNat_false] at p3 ⊢; omega⟩
        · obtain ⟨P, p1, p2, p3⟩ := put b t' hb he hbL x false f hx (by omega)
          exact ⟨P, p1, p2, by simp only [Bool.toNat_false] at p3 ⊢; omega⟩
      · have z1 : SizeOf.sizeOf (uap S.2.1 t) = 1 + SizeOf.sizeOf (uap S.2.1 r) + SizeOf.sizeOf iv.toNat := by rw [h1]; rfl
        have hh : uh (uap S.2.1 t) = uh (uap S.2.1 r) + 1 := by rw [h1]; rfl
        obtain ⟨P, p1, p2, p3⟩ := put b t' hb he hbL r true w hr (by omega)
        exact ⟨P, p1, p2, by simp only [Bool.toNat_false, Bool.toNat_true] at p3 ⊢; omega⟩
    | true =>
      obtain ⟨d, b, t', -, -, hb, he, hcs⟩ := hC.nowR ht
      rcases hcs with ⟨h1, -, -⟩ | ⟨v, -, h1, -⟩ | ⟨x, k, r, ty, rs, h1, -, hMb, hx, hr⟩
      · exact ⟨[], List.nodup_nil, fun p hp => absurd hp List.not_mem_nil, by rw [h1]; simp [uh]⟩
      · exact ⟨[], List.nodup_nil, fun p hp => absurd hp List.not_mem_nil, by rw [h1]; simp [uh]⟩
      · have z1 := uins_size (l := k) (t := uap S.2.1 x) (uap S.2.1 r)
        have hh := uins_h (l := k) (t := uap S.2.1 x) (uap S.2.1 r)
        rw [← h1] at z1 hh
        by_cases hc : uh (uap S.2.1 x) + 1 ≤ uh (uap S.2.1 r)
        · obtain ⟨P, p1, p2, p3⟩ := ih r true rs (by omega) hr
          exact ⟨P, p1, fun p hp => by obtain ⟨k1, k2⟩ := p2 p hp; exact ⟨k1, by omega⟩, by simp only [Bool.toNat_true] at p3 ⊢; omega⟩
        · obtain ⟨P, p1, p2, p3⟩ := ih x false ty (by omega) hx
          exact ⟨P, p1, fun p hp => by obtain ⟨k1, k2⟩ := p2 p hp; exact ⟨k1, by omega⟩, by simp only [Bool.toNat_true, Bool.toNat_false] at p3 ⊢; omega⟩
theorem uCI.heightB {Z : mm_G} {M : mm_M} {L : List Nat} {vr : Nat → Nat} {S : ts} (hC : uCI Z M L vr S) {b : Nat} (hB : uB Z M L vr S b) {t : ev} {m : Bool} {a : Nat} (ht : tp Z M L vr S.1 t m a) : uh (uap S.2.1 t) ≤ 2 * b + m.toNat := by
  obtain ⟨P, h1, h2, h3⟩ := hC.pathB _ t m a (Nat.lt_succ_self _) ht
  obtain ⟨B, h4, h5⟩ := hB
  have h6 := nodup_subE h1 (fun T hT => by obtain ⟨⟨b, hb, t', k1, k2⟩, -⟩ := h2 T hT; rw [← k2]; exact h5 b hb t' k1)
  omega
theorem uK.R {M M' : mm_M} (h : uK M M') {a : Nat} {bd : Option Nat} {lv lc : Int32} {lk : Bool} (ha : M a = some (cr_E bd lv lk lc)) : ∃ bd' lv' lk', M' a = some (cr_E bd' lv' lk' lc) := by
  rcases h a _ ha with k | ⟨bd2, lv2, lk2, bd3, lv3, lk3, e2, k⟩ | ⟨bd2, lv2, lk2, bd3, lv3, lk3, lc3, e2, k⟩ | ⟨f2, g2, sm2, bq2, rn2, sm3, bq3, rn3, e2, k, kby⟩ | ⟨iv2, w2, sm2, bq2, rn2, sm3, bq3, rn3, e2, k, kby⟩
  · exact ⟨_, _, _, k⟩
  · exfalso; simp at e2
  · obtain ⟨-, -, -, rfl⟩ := cr_inj e2; exact ⟨_, _, _, k⟩
  · exfalso; simp at e2
  · exfalso; simp at e2
/-- what is new are rows' variables -/
def uNw (M' : mm_M) (L L' : List Nat) : Prop := ∀ a ∈ L', a ∉ L → ∃ bd lv lk lc, M' a = some (cr_E bd lv lk lc)
theorem uNw.rf (M : mm_M) (L : List Nat) : uNw M L L := fun _ h1 h2 => absurd h1 h2
theorem uNw.trans {M N : mm_M} {L L' L'' : List Nat} (h1 : uNw M L L') (hK : uK M N) (h2 : uNw N L' L'') : uNw N L L'' := fun a h3 h4 => by
  by_cases h5 : a ∈ L'
  · obtain ⟨bd, lv, lk, lc, h6⟩ := h1 a h5 h4
    obtain ⟨bd', lv', lk', h7⟩ := hK.R h6
    exact ⟨_, _, _, _, h7⟩
  · exact h2 a h3 h5
theorem uNewC {Z : mm_G} {M : mm_M} {L : List Nat} {vr : Nat → Nat} {n q v : Nat} (h : tp Z M (q :: L) vr n (.var v) true q) : uNw M L (q :: L) := fun a h1 h2 => by
  rcases List.mem_cons.1 h1 with rfl | h1
  · simp only [tp] at h; obtain ⟨-, -, -, bd, lv, lk, lc, h4⟩ := h; exact ⟨bd, lv, lk, lc, h4⟩
  · exact absurd h1 h2
theorem uB.goR {Z : mm_G} {M M' : mm_M} {L L' : List Nat} {vr vr' : Nat → Nat} {S S' : ts} {b : Nat} (h : uB Z M L vr S b) (hC : uCI Z M L vr S) (hC' : uCI Z M' L' vr' S') (hK : uK M M') (hL : ∀ a ∈ L, a ∈ L') (hv : ∀ v, v < S.1 → vr' v = vr v) (hn : S.1 ≤ S'.1) (hle : ts_le S S') (hnw : uNw M' L L') : uB Z M' L' vr' S' b :=
  h.go hC hC' hK hL hv hn hle (fun a h1 h2 t ht => by
    obtain ⟨bd, lv, lk, lc, h3⟩ := hnw a h1 h2
    obtain ⟨-, -, h4, -⟩ := tp.isR h3 ht
    cases h4)
