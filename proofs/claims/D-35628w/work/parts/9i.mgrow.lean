/-! ===== the model: new cells of types; how high types are ===== -/
set_option maxRecDepth 100000
/-- one more cell: q -/
theorem mCI.grow {M M' : mm_M} {L : List Nat} {vr vr' : Nat → Nat} {D D' : Nat → Bool} {S S' : ts} (hC : mCI M L vr D S) (hx : mm_Ext M M') {q : Nat} (hq : M q = none) (h1 : S.1 ≤ S'.1) (h2 : S'.2.1 = S.2.1) (hDD : ∀ v, D v = true → D' v = true ∧ vr' v = vr v) (hD' : ∀ v, D' v = true → v < S'.1) (hinj : ∀ u v, D' u = true → D' v = true → vr' u = vr' v → u = v)
    (hcl : ∀ v, D' v = true → ∀ u, uoc u (S.2.1 v) = true → D' u = true)
    (hv : ∀ v, D' v = true → vr' v ∈ q :: L ∧ ((∃ is sn cp, M' (vr' v) = some (mt_E 0 is none none none (S'.2.2.1 v) sn cp) ∧ (is = none ↔ S.2.1 v = .var v)) ∨ ∃ is, M' (vr' v) = some (mr_E 0 is 0 none none (S'.2.2.2.1 v) (S'.2.2.1 v)) ∧ (is = none ↔ S.2.1 v = .var v)))
    (htq : ∃ m t, mtp M' (q :: L) vr' D' t m q) (hn : mnext M' q = none) : mCI M' (q :: L) vr' D' S' ∧ mPhi M' (q :: L) = mPhi M L + 1 := by
  obtain ⟨⟨c1, c2, c3, c4, c5, c6⟩, d1, d2, ⟨rk, d3⟩⟩ := hC
  have mono : ∀ t m a, mtp M L vr D t m a → mtp M' (q :: L) vr' D' t m a := fun t m a h => mtp.mono hx.mK (fun _ h => List.mem_cons_of_mem _ h) hDD t m a h
  have hold : ∀ a, a ∈ L → M a ≠ none := fun a ha => by obtain ⟨m, t, h⟩ := d2 a ha; exact h.has
  have hqL : q ∉ L := fun h => hold q h hq
  have hnx : ∀ a, M a ≠ none → mnext M' a = mnext M a := fun a h => by unfold mnext; rw [hx a h]
  have hphi : mPhi M' (q :: L) = mPhi M L + 1 := by
    unfold mPhi
    rw [List.countP_cons_of_pos (by rw [hn]; rfl)]
    rw [List.countP_congr (fun a ha => by rw [hnx a (hold a ha)])]
  refine ⟨⟨⟨by unfold ts_ok; rw [h2]; exact c1, List.nodup_cons.2 ⟨hqL, c2⟩, hinj, by rw [h2]; exact fun v h => c4 v (by omega), hD', by rw [h2]; exact hcl⟩, fun v h => by rw [h2]; exact hv v h, fun a ha => ?_, ⟨fun a => if a = q then 0 else rk a, fun a ha => ?_⟩⟩, hphi⟩
  · rcases List.mem_cons.1 ha with rfl | ha
    · exact htq
    · obtain ⟨m, t, h⟩ := d2 a ha
      exact ⟨m, t, mono _ _ _ h⟩
  · rw [hphi]
    rcases List.mem_cons.1 ha with rfl | ha
    · refine ⟨?_, fun o ho => ?_⟩
      · dsimp only; rw [if_pos rfl, List.length_cons]; have := mPhi_le M L; omega
      · rw [hn] at ho; cases ho
    · have haq : a ≠ q := fun h => hqL (h ▸ ha)
      refine ⟨?_, fun o ho => ?_⟩
      · dsimp only; rw [if_neg haq, List.length_cons]; have := (d3 a ha).1; omega
      · rw [hnx a (hold a ha)] at ho
        obtain ⟨e1, m2, t2, t3, e2, e3, e4⟩ := (d3 a ha).2 o ho
        refine ⟨fun hoL => ?_, m2, t2, t3, mono _ _ _ e2, mono _ _ _ e3, by rw [h2]; exact e4⟩
        have hoq : o ≠ q := fun h => e3.has (h ▸ hq)
        dsimp only
        rw [if_neg haq, if_neg hoq]
        exact e1 ((List.mem_cons.1 hoL).resolve_left hoq)
/-- one more variable is there -/
def mD (D : Nat → Bool) (n : Nat) : Nat → Bool := fun v => decide (v = n) || D v
theorem mD_n {D : Nat → Bool} {n : Nat} : mD D n n = true := by simp [mD]
theorem mD_o {D : Nat → Bool} {n v : Nat} (h : D v = true) : mD D n v = true := by simp [mD, h]
theorem mD_c {D : Nat → Bool} {n v : Nat} (h : mD D n v = true) : v = n ∨ D v = true := by simpa [mD] using h
theorem mCI.newVar {M M' : mm_M} {L : List Nat} {vr : Nat → Nat} {D : Nat → Bool} {S S' : ts} (hC : mCI M L vr D S) (hx : mm_Ext M M') {q u : Nat} (hq : M q = none) (h1 : S.1 ≤ S'.1) (h2 : S'.2.1 = S.2.1) (hu : u < S'.1) (hD : D u = false) (hs : S.2.1 u = .var u) (hf : ∀ v, D v = true → S'.2.2.1 v = S.2.2.1 v ∧ S'.2.2.2.1 v = S.2.2.2.1 v)
    (h : (∃ sn cp, M' q = some (mt_E 0 none none none none (S'.2.2.1 u) sn cp)) ∨ M' q = some (mr_E 0 none 0 none none (S'.2.2.2.1 u) (S'.2.2.1 u))) : mCI M' (q :: L) (uvr vr u q) (mD D u) S' ∧ mPhi M' (q :: L) = mPhi M L + 1 := by
  have hne : ∀ v, D v = true → v ≠ u := fun v hv e => by rw [e, hD] at hv; cases hv
  have hvr : ∀ v, D v = true → uvr vr u q v = vr v := fun v hv => if_neg (hne v hv)
  have hold : ∀ v, D v = true → vr v ≠ q := fun v hv h9 => by
    rcases (hC.2.1 v hv).2 with ⟨is, sn, cp, h2, -⟩ | ⟨is, h2, -⟩ <;> (rw [h9, hq] at h2; cases h2)
  refine hC.grow hx hq h1 h2 (fun v hv => ⟨mD_o hv, hvr v hv⟩) (fun v hv => ?_) ?_ ?_ ?_ ?_ ?_
  · rcases mD_c hv with rfl | hv
    · exact hu
    · exact Nat.lt_of_lt_of_le (hC.1.2.2.2.2.1 v hv) h1
  · intro a b ha hb h9
    rcases mD_c ha with rfl | ha2 <;> rcases mD_c hb with rfl | hb2
    · rfl
    · rw [hvr b hb2, show uvr vr a q a = q from if_pos rfl] at h9; exact absurd h9.symm (hold b hb2)
    · rw [hvr a ha2, show uvr vr b q b = q from if_pos rfl] at h9; exact absurd h9 (hold a ha2)
    · rw [hvr a ha2, hvr b hb2] at h9; exact hC.1.2.2.1 a b ha2 hb2 h9
  · intro v hv w hw
    rcases mD_c hv with rfl | hv
    · rw [hs] at hw; simp only [uoc, beq_iff_eq] at hw; rw [← hw]; exact mD_n
    · exact mD_o (hC.1.2.2.2.2.2 v hv w hw)
  · intro v hv
    rcases mD_c hv with rfl | hv
    · rw [show uvr vr v q v = q from if_pos rfl]
      refine ⟨List.mem_cons_self, ?_⟩
      rcases h with ⟨sn, cp, h⟩ | h
      · exact Or.inl ⟨none, sn, cp, h, fun _ => hs, fun _ => rfl⟩
      · exact Or.inr ⟨none, h, fun _ => hs, fun _ => rfl⟩
    · rw [hvr v hv, (hf v hv).1, (hf v hv).2]
      refine ⟨List.mem_cons_of_mem _ (hC.2.1 v hv).1, ?_⟩
      rcases (hC.2.1 v hv).2 with ⟨is, sn, cp, h2, h3⟩ | ⟨is, h2, h3⟩
      · exact Or.inl ⟨is, sn, cp, hx.at h2, h3⟩
      · exact Or.inr ⟨is, hx.at h2, h3⟩
  · rcases h with ⟨sn, cp, h⟩ | h
    · exact ⟨false, .var u, by unfold mtp; exact ⟨mD_n, (if_pos rfl : uvr vr u q u = q).symm, List.mem_cons_self, _, _, _, _, h⟩⟩
    · exact ⟨true, .var u, by unfold mtp; exact ⟨mD_n, (if_pos rfl : uvr vr u q u = q).symm, List.mem_cons_self, _, _, _, h⟩⟩
  · rcases h with ⟨sn, cp, h⟩ | h
    · exact mnext_t h
    · exact mnext_r h
/-- a new function, a new record or variant, a new N -/
theorem mCI.newObj {M M' : mm_M} {L : List Nat} {vr : Nat → Nat} {D : Nat → Bool} {S : ts} (hC : mCI M L vr D S) (hx : mm_Ext M M') {q : Nat} (hq : M q = none) {t : ev} (ht : mtp M' (q :: L) vr D t false q) (hn : mnext M' q = none) : mCI M' (q :: L) vr D S ∧ mPhi M' (q :: L) = mPhi M L + 1 := by
  refine hC.grow hx hq (Nat.le_refl _) rfl (fun v h => ⟨h, rfl⟩) hC.1.2.2.2.2.1 hC.1.2.2.1 hC.1.2.2.2.2.2 (fun v hv => ⟨List.mem_cons_of_mem _ (hC.2.1 v hv).1, ?_⟩) ⟨false, t, ht⟩ hn
  rcases (hC.2.1 v hv).2 with ⟨is, sn, cp, h2, h3⟩ | ⟨is, h2, h3⟩
  · exact Or.inl ⟨is, sn, cp, hx.at h2, h3⟩
  · exact Or.inr ⟨is, hx.at h2, h3⟩
theorem mSt.grow {M M' : mm_M} {L : List Nat} {vr : Nat → Nat} {D : Nat → Bool} {S : ts} {n q : Nat} (h : mSt M L n) (hC : mCI M L vr D S) (hx : mm_Ext M M') (hq : ∀ k is fr to rw cm sn cp, M' q = some (mt_E k is fr to rw cm sn cp) → ∃ j, j ≤ n ∧ sn = nJ j) : mSt M' (q :: L) n := ⟨h.1, fun b hb => by
  rcases List.mem_cons.1 hb with rfl | hb
  · exact hq
  · exact (h.ext hC hx).2 b hb⟩
/-- the types seen at L are among b many -/
def mB (M : mm_M) (L : List Nat) (vr : Nat → Nat) (D : Nat → Bool) (S : ts) (b : Nat) : Prop := ∃ B : List ev, B.length ≤ b ∧ ∀ a ∈ L, ∀ t, mtp M L vr D t false a → uap S.2.1 t ∈ B
/-- what is new are rows' variables -/
def mNw (M' : mm_M) (L L' : List Nat) : Prop := ∀ a ∈ L', a ∉ L → ∃ is lk cm, M' a = some (mr_E 0 is 0 none none lk cm)
theorem mNw.rf (M : mm_M) (L : List Nat) : mNw M L L := fun _ h1 h2 => absurd h1 h2
theorem mNw.trans {M N : mm_M} {L L' L'' : List Nat} (h1 : mNw M L L') (hK : mK M N) (h2 : mNw N L' L'') : mNw N L L'' := fun a h3 h4 => by
  by_cases h5 : a ∈ L'
  · obtain ⟨is, lk, cm, h6⟩ := h1 a h5 h4
    obtain ⟨is', cm', h7⟩ := hK.R h6
    exact ⟨_, _, _, h7⟩
  · exact h2 a h3 h5
theorem mB.goR {M M' : mm_M} {L L' : List Nat} {vr vr' : Nat → Nat} {D D' : Nat → Bool} {S S' : ts} {b : Nat} (h : mB M L vr D S b) (hC : mCI M L vr D S) (hC' : mCI M' L' vr' D' S') (hK : mK M M') (hL : ∀ a ∈ L, a ∈ L') (hv : ∀ v, D v = true → D' v = true ∧ vr' v = vr v) (hle : ts_le S S') (hnw : mNw M' L L') : mB M' L' vr' D' S' b := by
  obtain ⟨B, h1, h2⟩ := h
  refine ⟨B.map (uap S'.2.1), by rw [List.length_map]; exact h1, fun a ha t ht => ?_⟩
  by_cases haL : a ∈ L
  · obtain ⟨m, t0, h3⟩ := hC.2.2.1 a haL
    obtain ⟨rfl, rfl⟩ := mtp.uniq hC'.1.2.2.1 _ _ _ _ _ ht (mtp.mono hK hL hv _ _ _ h3)
    rw [← hle t]
    exact List.mem_map_of_mem (h2 a haL _ h3)
  · obtain ⟨is, lk, cm, h3⟩ := hnw a ha haL
    obtain ⟨-, k, is2, fr, to, rw, cm2, sn, cp, h4⟩ := ht.cellT
    rw [h3] at h4; exact absurd (Option.some.inj h4).symm mt_ne_mr
/-- the types on the way down to the lowest part -/
theorem mCI.pathB {M : mm_M} {L : List Nat} {vr : Nat → Nat} {D : Nat → Bool} {S : ts} (hC : mCI M L vr D S) : ∀ (N : Nat) (t : ev) (m : Bool) (a : Nat), SizeOf.sizeOf (uap S.2.1 t) < N → mtp M L vr D t m a →
    ∃ P : List ev, P.Nodup ∧ (∀ T ∈ P, (∃ b ∈ L, ∃ t', mtp M L vr D t' false b ∧ uap S.2.1 t' = T) ∧ SizeOf.sizeOf T ≤ SizeOf.sizeOf (uap S.2.1 t)) ∧ uh (uap S.2.1 t) ≤ 2 * P.length + m.toNat := by
  intro N
  induction N with
  | zero => intro t m a h; omega
  | succ N ih =>
    intro t m a hz ht
    have put : ∀ (b : Nat) (t' : ev), mtp M L vr D t' false b → uap S.2.1 t' = uap S.2.1 t → b ∈ L → ∀ (x : ev) (mx : Bool) (ax : Nat), mtp M L vr D x mx ax → SizeOf.sizeOf (uap S.2.1 x) < SizeOf.sizeOf (uap S.2.1 t) →
        ∃ P : List ev, P.Nodup ∧ (∀ T ∈ P, (∃ b ∈ L, ∃ t', mtp M L vr D t' false b ∧ uap S.2.1 t' = T) ∧ SizeOf.sizeOf T ≤ SizeOf.sizeOf (uap S.2.1 t)) ∧ uh (uap S.2.1 x) + 2 ≤ 2 * P.length + mx.toNat := by
      intro b t' hb he hbL x mx ax hx hsx
      obtain ⟨P, h1, h2, h3⟩ := ih x mx ax (by omega) hx
      refine ⟨uap S.2.1 t :: P, List.nodup_cons.2 ⟨fun hbP => ?_, h1⟩, fun p hp => ?_, by simp only [List.length_cons]; omega⟩
      · have := (h2 _ hbP).2; omega
      · rcases List.mem_cons.1 hp with rfl | hp
        · exact ⟨⟨b, hbL, t', hb, he⟩, Nat.le_refl _⟩
        · obtain ⟨k1, k2⟩ := h2 p hp
          exact ⟨k1, by omega⟩
    cases m with
    | false =>
      obtain ⟨d, b, t', -, hb, he, hbL, hcs⟩ := hC.nowT ht
      rcases hcs with ⟨h1, -⟩ | ⟨v, -, h1, -⟩ | ⟨x, y, f, g, cm, sn, cp, h1, hMb, hx, hy⟩ | ⟨r, iv, w, cm, sn, cp, h1, hMb, hr⟩
      · exact ⟨[], List.nodup_nil, fun p hp => absurd hp List.not_mem_nil, by rw [h1]; simp [uh]⟩
      · exact ⟨[], List.nodup_nil, fun p hp => absurd hp List.not_mem_nil, by rw [h1]; simp [uh]⟩
      · have z1 : SizeOf.sizeOf (uap S.2.1 t) = 1 + SizeOf.sizeOf (uap S.2.1 x) + SizeOf.sizeOf (uap S.2.1 y) := by rw [h1]; rfl
        have hh : uh (uap S.2.1 t) = max (uh (uap S.2.1 x)) (uh (uap S.2.1 y)) + 1 := by rw [h1]; rfl
        by_cases hc : uh (uap S.2.1 x) ≤ uh (uap S.2.1 y)
        · obtain ⟨P, p1, p2, p3⟩ := put b t' hb he hbL y false g hy (by omega)
          exact ⟨P, p1, p2, by simp only [Bool.toNat_false] at p3 ⊢; omega⟩
        · obtain ⟨P, p1, p2, p3⟩ := put b t' hb he hbL x false f hx (by omega)
          exact ⟨P, p1, p2, by simp only [Bool.toNat_false] at p3 ⊢; omega⟩
      · have z1 : SizeOf.sizeOf (uap S.2.1 t) = 1 + SizeOf.sizeOf (uap S.2.1 r) + SizeOf.sizeOf iv.toNat := by rw [h1]; rfl
        have hh : uh (uap S.2.1 t) = uh (uap S.2.1 r) + 1 := by rw [h1]; rfl
        obtain ⟨P, p1, p2, p3⟩ := put b t' hb he hbL r true w hr (by omega)
        exact ⟨P, p1, p2, by simp only [Bool.toNat_false, Bool.toNat_true] at p3 ⊢; omega⟩
    | true =>
      obtain ⟨d, b, t', -, hb, he, hcs⟩ := hC.nowR ht
      rcases hcs with ⟨h1, -⟩ | ⟨v, -, h1, -⟩ | ⟨x, k, r, ty, rs, h1, -, hMb, hx, hr⟩
      · exact ⟨[], List.nodup_nil, fun p hp => absurd hp List.not_mem_nil, by rw [h1]; simp [uh]⟩
      · exact ⟨[], List.nodup_nil, fun p hp => absurd hp List.not_mem_nil, by rw [h1]; simp [uh]⟩
      · have z1 := uins_size (l := k) (t := uap S.2.1 x) (uap S.2.1 r)
        have hh := uins_h (l := k) (t := uap S.2.1 x) (uap S.2.1 r)
        rw [← h1] at z1 hh
        by_cases hc : uh (uap S.2.1 x) + 1 ≤ uh (uap S.2.1 r)
        · obtain ⟨P, p1, p2, p3⟩ := ih r true rs (by omega) hr
          exact ⟨P, p1, fun p hp => by obtain ⟨k1, k2⟩ := p2 p hp; exact ⟨k1, by omega⟩, by simp only [Bool.toNat_true] at p3 ⊢; omega⟩
        · obtain ⟨P, p1, p2, p3⟩ := ih x false ty (by omega) hx
          exact ⟨P, p1, fun p hp => by obtain ⟨k1, k2⟩ := p2 p hp; exact ⟨k1, by omega⟩, by simp only [Bool.toNat_true, Bool.toNat_false] at p3 ⊢; omega⟩
theorem mCI.heightB {M : mm_M} {L : List Nat} {vr : Nat → Nat} {D : Nat → Bool} {S : ts} (hC : mCI M L vr D S) {b : Nat} (hB : mB M L vr D S b) {t : ev} {m : Bool} {a : Nat} (ht : mtp M L vr D t m a) : uh (uap S.2.1 t) ≤ 2 * b + m.toNat := by
  obtain ⟨P, h1, h2, h3⟩ := hC.pathB _ t m a (Nat.lt_succ_self _) ht
  obtain ⟨B, h4, h5⟩ := hB
  have h6 := nodup_subE h1 (fun T hT => by obtain ⟨⟨b, hb, t', k1, k2⟩, -⟩ := h2 T hT; rw [← k2]; exact h5 b hb t' k1)
  omega
/-- x lies d deep in some type -/
def mDeep (M : mm_M) (L : List Nat) (vr : Nat → Nat) (D : Nat → Bool) (S : ts) (x : ev) (d : Nat) : Prop := ∃ (R : ev) (mR : Bool) (aR : Nat), mtp M L vr D R mR aR ∧ ∀ s, uh (uap s (uap S.2.1 x)) + d ≤ uh (uap s (uap S.2.1 R))
theorem mDeep.of {M : mm_M} {L : List Nat} {vr : Nat → Nat} {D : Nat → Bool} {S : ts} {x : ev} {m : Bool} {a : Nat} (h : mtp M L vr D x m a) : mDeep M L vr D S x 0 := ⟨x, m, a, h, fun _ => Nat.le_refl _⟩
theorem mDeep.le {M : mm_M} {L : List Nat} {vr : Nat → Nat} {D : Nat → Bool} {S : ts} {x : ev} {d : Nat} (h : mDeep M L vr D S x d) (hC : mCI M L vr D S) {b : Nat} (hB : mB M L vr D S b) : uh (uap S.2.1 x) + d ≤ 2 * b + 1 := by
  obtain ⟨R, mR, aR, h1, h2⟩ := h
  have h3 := h2 .var
  have e1 : uap .var (uap S.2.1 x) = uap S.2.1 x := hC.1.1.can x
  have e2 : uap .var (uap S.2.1 R) = uap S.2.1 R := hC.1.1.can R
  rw [e1, e2] at h3
  have h4 := hC.heightB hB h1
  have h5 : mR.toNat ≤ 1 := Bool.toNat_le mR
  omega
theorem mDeep.mono {M M' : mm_M} {L L' : List Nat} {vr vr' : Nat → Nat} {D D' : Nat → Bool} {S S' : ts} {x : ev} {d : Nat} (h : mDeep M L vr D S x d) (hK : mK M M') (hL : ∀ a ∈ L, a ∈ L') (hv : ∀ v, D v = true → D' v = true ∧ vr' v = vr v) (hle : ts_le S S') : mDeep M' L' vr' D' S' x d := by
  obtain ⟨R, mR, aR, h1, h2⟩ := h
  refine ⟨R, mR, aR, mtp.mono hK hL hv _ _ _ h1, fun s => ?_⟩
  have h3 := h2 (fun v => uap s (S'.2.1 v))
  rw [← uap_ap, ← uap_ap, hle x, hle R] at h3
  exact h3
theorem mDeep.to {M : mm_M} {L : List Nat} {vr : Nat → Nat} {D : Nat → Bool} {S : ts} {x y : ev} {d k : Nat} (h : mDeep M L vr D S x d) (hk : ∀ s, uh (uap s (uap S.2.1 y)) + k ≤ uh (uap s (uap S.2.1 x))) : mDeep M L vr D S y (d + k) := by
  obtain ⟨R, mR, aR, h1, h2⟩ := h
  exact ⟨R, mR, aR, h1, fun s => by have := h2 s; have := hk s; omega⟩
/-- a variable's cell -/
def mVar (M : mm_M) (z : Nat) : Prop := (∃ is cm sn cp, M z = some (mt_E 0 is none none none cm sn cp)) ∨ ∃ is lk cm, M z = some (mr_E 0 is 0 none none lk cm)
theorem mVar.back {M M' : mm_M} (hK : mK M M') {z : Nat} (hz : M z ≠ none) (h : mVar M' z) : mVar M z := by
  cases he : M z with
  | none => exact absurd he hz
  | some e =>
    rcases hK z e he with k | ⟨k2, is2, fr2, to2, rw2, cm2, sn2, cp2, is3, cm3, sn3, cp3, e2, k⟩ | ⟨is2, lk2, cm2, is3, cm3, e2, k⟩ | ⟨_, _, _, _, _, _, _, _, _, _, _, _, _, _, _, _, _, _, _, e2, k⟩
    · rcases h with ⟨is, cm, sn, cp, h⟩ | ⟨is, lk, cm, h⟩
      · exact Or.inl ⟨is, cm, sn, cp, by rw [he, ← k]; exact h⟩
      · exact Or.inr ⟨is, lk, cm, by rw [he, ← k]; exact h⟩
    · rcases h with ⟨is, cm, sn, cp, h⟩ | ⟨is, lk, cm, h⟩
      · rw [k] at h; obtain ⟨rfl, -, rfl, rfl, rfl, -⟩ := mt_inj (Option.some.inj h); exact Or.inl ⟨_, _, _, _, by rw [he, e2]⟩
      · rw [k] at h; exact absurd (Option.some.inj h) mt_ne_mr
    · exact Or.inr ⟨_, _, _, by rw [he, e2]⟩
    · rcases h with ⟨is, cm, sn, cp, h⟩ | ⟨is, lk, cm, h⟩ <;> (rw [k] at h; exact absurd (Prod.mk.inj (Sum.inr.inj (Option.some.inj h))).1 (by decide))
theorem mCI.isVar {M : mm_M} {L : List Nat} {vr : Nat → Nat} {D : Nat → Bool} {S : ts} (hC : mCI M L vr D S) {u : Nat} (hu : D u = true) : mVar M (vr u) := by
  rcases (hC.2.1 u hu).2 with ⟨is, sn, cp, h, -⟩ | ⟨is, h, -⟩
  · exact Or.inl ⟨_, _, _, _, h⟩
  · exact Or.inr ⟨_, _, _, h⟩
theorem mVar.notT {M : mm_M} {z : Nat} (h : mVar M z) {k : Int32} {is fr to rw cp : Option Nat} {cm : Bool} {sn : Int64} (hz : M z = some (mt_E k is fr to rw cm sn cp)) (hk : k ≠ 0) : False := by
  rcases h with ⟨is2, cm2, sn2, cp2, h⟩ | ⟨is2, lk2, cm2, h⟩
  · rw [hz] at h; exact hk (mt_inj (Option.some.inj h)).1
  · rw [hz] at h; exact absurd (Option.some.inj h) mt_ne_mr
/-- a function, a record or a variant comes to be another one that is seen alike -/
theorem mCI.fwd0 {M M' : mm_M} {L : List Nat} {vr : Nat → Nat} {D : Nat → Bool} {S : ts} (hC : mCI M L vr D S) (hK : mK M M') {a o : Nat} (hq : ∀ q, q ≠ a → M' q = M q) (haL : a ∈ L) (hna : mnext M a = none) (hno : mnext M' a = some o) (hon : mnext M o = none) (hoa : o ≠ a) {m : Bool} {t t' : ev} (hta : mtp M L vr D t m a) (hto : mtp M L vr D t' m o) (hnv : ¬ mVar M a) (he : uap S.2.1 t = uap S.2.1 t') : mCI M' L vr D S ∧ mPhi M' L + 1 = mPhi M L :=
  hC.fwd hK hq haL hna hno hon hoa hta hto rfl hC.1.1 hC.1.1.le hC.1.2.2.2.1 hC.1.2.2.2.2.2 (fun v hv => by
    have hne : vr v ≠ a := fun h => hnv (h ▸ hC.isVar hv)
    rw [hq _ hne]
    exact (hC.2.1 v hv).2) he
