/-! ===== the model: a name's type with new variables ===== -/
set_option maxRecDepth 100000
theorem mCI.st {M : mm_M} {L : List Nat} {vr : Nat → Nat} {D : Nat → Bool} {S S' : ts} (hC : mCI M L vr D S) (h1 : S.1 ≤ S'.1) (h2 : S'.2.1 = S.2.1) (hf : ∀ v, D v = true → S'.2.2.1 v = S.2.2.1 v ∧ S'.2.2.2.1 v = S.2.2.2.1 v) : mCI M L vr D S' := by
  obtain ⟨⟨c1, c2, c3, c4, c5, c6⟩, d1, d2, ⟨rk, d3⟩⟩ := hC
  refine ⟨⟨by unfold ts_ok; rw [h2]; exact c1, c2, c3, by rw [h2]; exact fun v h => c4 v (by omega), fun v h => Nat.lt_of_lt_of_le (c5 v h) h1, by rw [h2]; exact c6⟩, fun v h => by rw [h2, (hf v h).1, (hf v h).2]; exact d1 v h, d2, ⟨rk, by rw [h2]; exact d3⟩⟩
/-- while new variables are made for those of gs -/
def mIn (n : Nat) (gl : List Nat) (kk : Nat → Bool) (M : mm_M) (L : List Nat) (vr : Nat → Nat) (D : Nat → Bool) (S' : ts) (st : Nat) (gs : List Nat) (M' : mm_M) (L' : List Nat) (vr' : Nat → Nat) (D' : Nat → Bool) : Prop :=
  (mCI M' L' vr' D' S' ∧ mK M M' ∧ mSt M' L' st) ∧ ((∀ z ∈ L, z ∈ L') ∧ L'.length ≤ L.length + gs.length ∧ ∀ z ∈ L', z ∈ L ∨ ∃ g ∈ gs, z = vr' (n + gl.idxOf g)) ∧ ((∀ v, D v = true → D' v = true ∧ vr' v = vr v) ∧ ∀ v, D' v = true ↔ D v = true ∨ ∃ g ∈ gs, v = n + gl.idxOf g) ∧
  (∀ b ∈ L', mk M' (nJ st) b → ∃ g ∈ gs, kk g = false ∧ b = vr g) ∧ (∀ g ∈ gs, kk g = false → (∃ cm, M' (vr g) = some (mt_E 0 none none none none cm (nJ st) (some (vr' (n + gl.idxOf g))))) ∧ ∃ cm sn cp, M' (vr' (n + gl.idxOf g)) = some (mt_E 0 none none none none cm sn cp)) ∧ ∀ g ∈ gs, kk g = true → ∃ lk cm, M' (vr' (n + gl.idxOf g)) = some (mr_E 0 none 0 none none lk cm)
theorem nJ_ne {k : Nat} (hk : k + 1 < 2 ^ 62) : nJ 0 ≠ nJ (k + 1) := fun h => by have := nJ_inj (by decide) hk h; omega
theorem uvr_eq {vr : Nat → Nat} {u q : Nat} : uvr vr u q u = q := if_pos rfl
theorem uvr_ne {vr : Nat → Nat} {u q v : Nat} (h : v ≠ u) : uvr vr u q v = vr v := if_neg h
theorem idx_ne {gl : List Nat} {a b n : Nat} (ha : a ∈ gl) (hab : a ≠ b) (hb : b ∈ gl) : n + gl.idxOf a ≠ n + gl.idxOf b := fun h => hab (idxOf_inj ha (by omega) hb)
/-- one more: what is common to types and rows -/
theorem mIn.pre {n : Nat} {gl : List Nat} {kk : Nat → Bool} {M : mm_M} {L : List Nat} {vr : Nat → Nat} {D : Nat → Bool} {S' : ts} {st : Nat} {gs : List Nat} {M' : mm_M} {L' : List Nat} {vr' : Nat → Nat} {D' : Nat → Bool} (h : mIn n gl kk M L vr D S' (st + 1) gs M' L' vr' D') {g : Nat} (hgl : g ∈ gl) (hng : g ∉ gs) (hgs : ∀ x ∈ gs, x ∈ gl) (hDn : ∀ v, D v = true → v < n) : D' (n + gl.idxOf g) = false ∧ ∀ x ∈ gs, n + gl.idxOf x ≠ n + gl.idxOf g := by
  refine ⟨?_, fun x hx => idx_ne (hgs x hx) (fun e => hng (e ▸ hx)) hgl⟩
  cases h9 : D' (n + gl.idxOf g) with
  | false => rfl
  | true =>
    rcases (h.2.2.1.2 _).1 h9 with h8 | ⟨x, hx, e⟩
    · have := hDn _ h8; omega
    · exact absurd e (idx_ne hgl (fun e9 => hng (e9 ▸ hx)) (hgs x hx))
theorem mIn.stepT {n : Nat} {gl : List Nat} {kk : Nat → Bool} {M : mm_M} {L : List Nat} {vr : Nat → Nat} {D : Nat → Bool} {S' : ts} {st : Nat} {gs : List Nat} {M' : mm_M} {L' : List Nat} {vr' : Nat → Nat} {D' : Nat → Bool} (h : mIn n gl kk M L vr D S' (st + 1) gs M' L' vr' D') (hst : st + 1 < 2 ^ 62) {g q : Nat} {M2 : mm_M} (hgl : g ∈ gl) (hng : g ∉ gs) (hgs : ∀ x ∈ gs, x ∈ gl) (hDn : ∀ v, D v = true → v < n) (hn9 : n + gl.length ≤ S'.1) (hsv : S'.2.1 (n + gl.idxOf g) = .var (n + gl.idxOf g)) (hk : kk g = false) (hgD : D g = true) (hinj : ∀ u v, D u = true → D v = true → vr u = vr v → u = v) (hgsD : ∀ x ∈ gs, D x = true)
    (hq : M' q = none) {cm : Bool} {sn : Int64} {cp : Option Nat} (hg : M' (vr g) = some (mt_E 0 none none none none cm sn cp)) (h1 : M2 q = some (mt_E 0 none none none none (S'.2.2.1 (n + gl.idxOf g)) 0 none)) (h2 : M2 (vr g) = some (mt_E 0 none none none none cm (nJ (st + 1)) (some q))) (h3 : ∀ z, z ≠ q → z ≠ vr g → M2 z = M' z) :
    mIn n gl kk M L vr D S' (st + 1) (gs ++ [g]) M2 (q :: L') (uvr vr' (n + gl.idxOf g) q) (mD D' (n + gl.idxOf g)) := by
  obtain ⟨hDf, hne⟩ := h.pre hgl hng hgs hDn
  obtain ⟨⟨a1, a2, a3⟩, ⟨b1, b2, b3⟩, ⟨c1, c2⟩, d1, d2, d3⟩ := h
  have hgq : vr g ≠ q := fun e => by rw [e, hq] at hg; cases hg
  have hgl2 : gl.idxOf g < gl.length := List.idxOf_lt_length_of_mem hgl
  have hx : mm_Ext M' (mm_U M' q (mt_E 0 none none none none (S'.2.2.1 (n + gl.idxOf g)) 0 none)) := mm_Ext.U hq
  obtain ⟨e1, -⟩ := a1.newVar (S' := S') hx hq (Nat.le_refl _) rfl (u := n + gl.idxOf g) (by omega) hDf hsv (fun _ _ => ⟨rfl, rfl⟩) (Or.inl ⟨0, none, mm_U_eq⟩)
  have hgU : mm_U M' q (mt_E 0 none none none none (S'.2.2.1 (n + gl.idxOf g)) 0 none) (vr g) = some (mt_E 0 none none none none cm sn cp) := (mm_U_ne hgq).trans hg
  have hkU : ∀ z, z ≠ vr g → M2 z = mm_U M' q (mt_E 0 none none none none (S'.2.2.1 (n + gl.idxOf g)) 0 none) z := fun z hz => by
    by_cases e : z = q
    · rw [e, h1, mm_U_eq]
    · rw [mm_U_ne e, h3 z e hz]
  have hL := mL.two hgU h2 hkU
  have hC2 : mCI M2 (q :: L') (uvr vr' (n + gl.idxOf g) q) (mD D' (n + gl.idxOf g)) S' := e1.light hL rfl rfl (fun v hD => by
    rcases (e1.2.1 v hD).2 with ⟨is9, sn9, cp9, k1, k2⟩ | ⟨is9, k1, k2⟩
    · by_cases e : uvr vr' (n + gl.idxOf g) q v = vr g
      · rw [e, hgU] at k1
        obtain ⟨-, rfl, -, -, -, rfl, rfl, rfl⟩ := mt_inj (Option.some.inj k1)
        exact Or.inl ⟨_, _, _, by rw [e]; exact h2, k2⟩
      · exact Or.inl ⟨_, _, _, by rw [hkU _ e]; exact k1, k2⟩
    · by_cases e : uvr vr' (n + gl.idxOf g) q v = vr g
      · rw [e, hgU] at k1; exact absurd (Option.some.inj k1) mt_ne_mr
      · exact Or.inr ⟨_, by rw [hkU _ e]; exact k1, k2⟩)
  have hvo : ∀ x ∈ gs, uvr vr' (n + gl.idxOf g) q (n + gl.idxOf x) = vr' (n + gl.idxOf x) := fun x hx => uvr_ne (hne x hx)
  have hvx : ∀ x ∈ gs, vr x ≠ vr g := fun x hx e => hng (hinj x g (hgsD x hx) hgD e ▸ hx)
  have hLc : ∀ b ∈ L', M' b ≠ none := fun b hb => by obtain ⟨m, t, k⟩ := a1.2.2.1 b hb; exact k.has
  refine ⟨⟨hC2, a2.trans (hx.mK.trans hL.K), ⟨hst, fun b hb k9 is9 fr9 to9 rw9 cm9 sn9 cp9 h9 => ?_⟩⟩, ⟨fun z hz => List.mem_cons_of_mem _ (b1 z hz), by rw [List.length_cons, List.length_append, List.length_singleton]; omega, fun z hz => ?_⟩, ⟨fun v hv => ?_, fun v => ?_⟩, fun b hb hm => ?_, fun x hx hkx => ?_, fun x hx hkx => ?_⟩
  · by_cases e : b = vr g
    · rw [e, h2] at h9
      exact ⟨st + 1, Nat.le_refl _, (mt_inj (Option.some.inj h9)).2.2.2.2.2.2.1.symm⟩
    · by_cases e2 : b = q
      · rw [e2, h1] at h9
        exact ⟨0, Nat.zero_le _, (mt_inj (Option.some.inj h9)).2.2.2.2.2.2.1.symm⟩
      · rw [h3 b e2 e] at h9
        exact a3.2 b ((List.mem_cons.1 hb).resolve_left e2) _ _ _ _ _ _ _ _ h9
  · rcases List.mem_cons.1 hz with rfl | hz
    · exact Or.inr ⟨g, List.mem_append_right _ (List.mem_singleton.2 rfl), uvr_eq.symm⟩
    · rcases b3 z hz with h9 | ⟨x, hx, e⟩
      · exact Or.inl h9
      · exact Or.inr ⟨x, List.mem_append_left _ hx, by rw [hvo x hx]; exact e⟩
  · have h9 := hDn v hv
    exact ⟨mD_o (c1 v hv).1, by rw [uvr_ne (by omega)]; exact (c1 v hv).2⟩
  · constructor
    · intro h9
      rcases mD_c h9 with rfl | h9
      · exact Or.inr ⟨g, List.mem_append_right _ (List.mem_singleton.2 rfl), rfl⟩
      · rcases (c2 v).1 h9 with h8 | ⟨x, hx, e⟩
        · exact Or.inl h8
        · exact Or.inr ⟨x, List.mem_append_left _ hx, e⟩
    · rintro (h9 | ⟨x, hx, rfl⟩)
      · exact mD_o (c1 v h9).1
      · rcases List.mem_append.1 hx with hx | hx
        · exact mD_o ((c2 _).2 (Or.inr ⟨x, hx, rfl⟩))
        · rw [List.mem_singleton] at hx; subst hx; exact mD_n
  · by_cases e : b = vr g
    · exact ⟨g, List.mem_append_right _ (List.mem_singleton.2 rfl), hk, e⟩
    · by_cases e2 : b = q
      · rw [e2] at hm
        exact absurd ((mk_of h1).1 hm) (nJ_ne hst)
      · obtain ⟨k9, is9, fr9, to9, rw9, cm9, cp9, h9⟩ := hm
        rw [h3 b e2 e] at h9
        obtain ⟨x, hx, hkx, e9⟩ := d1 b ((List.mem_cons.1 hb).resolve_left e2) ⟨_, _, _, _, _, _, _, h9⟩
        exact ⟨x, List.mem_append_left _ hx, hkx, e9⟩
  · rcases List.mem_append.1 hx with hx | hx
    · obtain ⟨⟨cm9, k1⟩, cm8, sn8, cp8, k2⟩ := d2 x hx hkx
      rw [hvo x hx]
      refine ⟨⟨cm9, ?_⟩, ?_⟩
      · rw [h3 _ (fun e => by rw [e, hq] at k1; cases k1) (hvx x hx)]; exact k1
      · by_cases e : vr' (n + gl.idxOf x) = vr g
        · exact ⟨_, _, _, by rw [e]; exact h2⟩
        · exact ⟨_, _, _, by rw [h3 _ (fun e => by rw [e, hq] at k2; cases k2) e]; exact k2⟩
    · rw [List.mem_singleton] at hx; subst hx
      rw [uvr_eq]
      exact ⟨⟨_, h2⟩, _, _, _, h1⟩
  · rcases List.mem_append.1 hx with hx | hx
    · obtain ⟨lk9, cm9, k1⟩ := d3 x hx hkx
      rw [hvo x hx]
      exact ⟨lk9, cm9, by rw [h3 _ (fun e => by rw [e, hq] at k1; cases k1) (fun e => by rw [e, hg] at k1; exact mt_ne_mr (Option.some.inj k1))]; exact k1⟩
    · rw [List.mem_singleton] at hx; subst hx; rw [hk] at hkx; cases hkx
theorem mIn.stepR {n : Nat} {gl : List Nat} {kk : Nat → Bool} {M : mm_M} {L : List Nat} {vr : Nat → Nat} {D : Nat → Bool} {S' : ts} {st : Nat} {gs : List Nat} {M' : mm_M} {L' : List Nat} {vr' : Nat → Nat} {D' : Nat → Bool} (h : mIn n gl kk M L vr D S' (st + 1) gs M' L' vr' D') (hst : st + 1 < 2 ^ 62) {g q ra : Nat} {M2 : mm_M} (hgl : g ∈ gl) (hng : g ∉ gs) (hgs : ∀ x ∈ gs, x ∈ gl) (hDn : ∀ v, D v = true → v < n) (hn9 : n + gl.length ≤ S'.1) (hsv : S'.2.1 (n + gl.idxOf g) = .var (n + gl.idxOf g)) (hk : kk g = true)
    (hq : M' q = none) {x9 : ClassId × vp_A} (hra : M' ra = some (.inl x9)) (hraM : M ra = none) (h1 : M2 q = some (mr_E 0 none 0 none none (S'.2.2.2.1 (n + gl.idxOf g)) (S'.2.2.1 (n + gl.idxOf g)))) (h3 : ∀ z, z ≠ q → z ≠ ra → M2 z = M' z) :
    mIn n gl kk M L vr D S' (st + 1) (gs ++ [g]) M2 (q :: L') (uvr vr' (n + gl.idxOf g) q) (mD D' (n + gl.idxOf g)) := by
  obtain ⟨hDf, hne⟩ := h.pre hgl hng hgs hDn
  obtain ⟨⟨a1, a2, a3⟩, ⟨b1, b2, b3⟩, ⟨c1, c2⟩, d1, d2, d3⟩ := h
  have hgl2 : gl.idxOf g < gl.length := List.idxOf_lt_length_of_mem hgl
  have hx : mm_Ext M' (mm_U M' q (mr_E 0 none 0 none none (S'.2.2.2.1 (n + gl.idxOf g)) (S'.2.2.1 (n + gl.idxOf g)))) := mm_Ext.U hq
  obtain ⟨e1, -⟩ := a1.newVar (S' := S') hx hq (Nat.le_refl _) rfl (u := n + gl.idxOf g) (by omega) hDf hsv (fun _ _ => ⟨rfl, rfl⟩) (Or.inr mm_U_eq)
  have hraq : ra ≠ q := fun e => by rw [e, hq] at hra; cases hra
  have hO : mO (mm_U M' q (mr_E 0 none 0 none none (S'.2.2.2.1 (n + gl.idxOf g)) (S'.2.2.1 (n + gl.idxOf g)))) M2 := fun a ci fs ha => by
    by_cases e : a = q
    · rw [e, mm_U_eq] at ha; rw [e, h1]; exact ha
    · rw [mm_U_ne e] at ha
      rw [h3 a e (fun e2 => by rw [e2, hra] at ha; cases ha)]; exact ha
  have hC2 := e1.obj hO
  have hO2 : mO M' M2 := fun a ci fs ha => hO a ci fs (hx.at ha)
  have hK2 : mK M M2 := fun a e ha => by
    have hane : a ≠ ra := fun e2 => by rw [e2, hraM] at ha; cases ha
    have hM'a := a2.hasN (a := a) (by rw [ha]; exact fun h9 => by cases h9)
    have hanq : a ≠ q := fun e2 => hM'a (by rw [e2]; exact hq)
    rw [h3 a hanq hane]; exact a2 a e ha
  have hvo : ∀ x ∈ gs, uvr vr' (n + gl.idxOf g) q (n + gl.idxOf x) = vr' (n + gl.idxOf x) := fun x hx => uvr_ne (hne x hx)
  have hLo : ∀ b ∈ L', ∃ ci fs, M' b = some (.inr (ci, fs)) := fun b hb => by obtain ⟨m, t, k⟩ := a1.2.2.1 b hb; exact k.cell
  have hback : ∀ b ∈ L', M2 b = M' b := fun b hb => by obtain ⟨ci, fs, k⟩ := hLo b hb; rw [hO2 _ _ _ k, k]
  have hbq : ∀ b, b ∈ q :: L' → ∀ k9 is9 fr9 to9 rw9 cm9 sn9 cp9, M2 b = some (mt_E k9 is9 fr9 to9 rw9 cm9 sn9 cp9) → b ∈ L' := fun b hb k9 is9 fr9 to9 rw9 cm9 sn9 cp9 h9 => by
    rcases List.mem_cons.1 hb with rfl | hb
    · rw [h1] at h9; exact absurd (Option.some.inj h9).symm mt_ne_mr
    · exact hb
  refine ⟨⟨hC2, hK2, ⟨hst, fun b hb k9 is9 fr9 to9 rw9 cm9 sn9 cp9 h9 => ?_⟩⟩, ⟨fun z hz => List.mem_cons_of_mem _ (b1 z hz), by rw [List.length_cons, List.length_append, List.length_singleton]; omega, fun z hz => ?_⟩, ⟨fun v hv => ?_, fun v => ?_⟩, fun b hb hm => ?_, fun x hx hkx => ?_, fun x hx hkx => ?_⟩
  · have hb2 := hbq b hb _ _ _ _ _ _ _ _ h9
    rw [hback b hb2] at h9
    exact a3.2 b hb2 _ _ _ _ _ _ _ _ h9
  · rcases List.mem_cons.1 hz with rfl | hz
    · exact Or.inr ⟨g, List.mem_append_right _ (List.mem_singleton.2 rfl), uvr_eq.symm⟩
    · rcases b3 z hz with h9 | ⟨x, hx, e⟩
      · exact Or.inl h9
      · exact Or.inr ⟨x, List.mem_append_left _ hx, by rw [hvo x hx]; exact e⟩
  · have h9 := hDn v hv
    exact ⟨mD_o (c1 v hv).1, by rw [uvr_ne (by omega)]; exact (c1 v hv).2⟩
  · constructor
    · intro h9
      rcases mD_c h9 with rfl | h9
      · exact Or.inr ⟨g, List.mem_append_right _ (List.mem_singleton.2 rfl), rfl⟩
      · rcases (c2 v).1 h9 with h8 | ⟨x, hx, e⟩
        · exact Or.inl h8
        · exact Or.inr ⟨x, List.mem_append_left _ hx, e⟩
    · rintro (h9 | ⟨x, hx, rfl⟩)
      · exact mD_o (c1 v h9).1
      · rcases List.mem_append.1 hx with hx | hx
        · exact mD_o ((c2 _).2 (Or.inr ⟨x, hx, rfl⟩))
        · rw [List.mem_singleton] at hx; subst hx; exact mD_n
  · obtain ⟨k9, is9, fr9, to9, rw9, cm9, cp9, h9⟩ := hm
    have hb2 := hbq b hb _ _ _ _ _ _ _ _ h9
    rw [hback b hb2] at h9
    obtain ⟨x, hx, hkx, e9⟩ := d1 b hb2 ⟨_, _, _, _, _, _, _, h9⟩
    exact ⟨x, List.mem_append_left _ hx, hkx, e9⟩
  · rcases List.mem_append.1 hx with hx | hx
    · obtain ⟨⟨cm9, k1⟩, cm8, sn8, cp8, k2⟩ := d2 x hx hkx
      rw [hvo x hx]
      exact ⟨⟨cm9, hO2 _ _ _ k1⟩, cm8, sn8, cp8, hO2 _ _ _ k2⟩
    · rw [List.mem_singleton] at hx; subst hx; rw [hk] at hkx; cases hkx
  · rcases List.mem_append.1 hx with hx | hx
    · obtain ⟨lk9, cm9, k1⟩ := d3 x hx hkx
      rw [hvo x hx]
      exact ⟨lk9, cm9, hO2 _ _ _ k1⟩
    · rw [List.mem_singleton] at hx; subst hx; rw [uvr_eq]; exact ⟨_, _, h1⟩
/-- the cells whose types renewing changes -/
noncomputable def mGn (M : mm_M) (L : List Nat) (vr : Nat → Nat) (D : Nat → Bool) (S : ts) (gl : List Nat) : Nat := L.countP fun b => @decide (mCh M L vr D S gl b) (Classical.propDecidable _)

/-- variables' cells are of their kinds -/
def mKd (M : mm_M) (vr : Nat → Nat) (D : Nat → Bool) (kk : Nat → Bool) : Prop := ∀ v, D v = true → (kk v = false → ∃ is cm sn cp, M (vr v) = some (mt_E 0 is none none none cm sn cp)) ∧ (kk v = true → ∃ is lk cm, M (vr v) = some (mr_E 0 is 0 none none lk cm))
theorem mKd.mono {M M' : mm_M} {vr : Nat → Nat} {D kk : Nat → Bool} (h : mKd M vr D kk) (hK : mK M M') : mKd M' vr D kk := fun v hv => ⟨fun hk => by obtain ⟨is, cm, sn, cp, k⟩ := (h v hv).1 hk; exact hK.T k |>.elim fun a b => b.elim fun b c => c.elim fun c d => d.elim fun d e => ⟨_, _, _, _, e⟩, fun hk => by obtain ⟨is, lk, cm, k⟩ := (h v hv).2 hk; obtain ⟨is', cm', k'⟩ := hK.R k; exact ⟨_, _, _, k'⟩⟩
theorem mSt.up {M : mm_M} {L : List Nat} {n : Nat} (h : mSt M L n) (hn : n + 1 < 2 ^ 62) : mSt M L (n + 1) := ⟨hn, fun b hb k is fr to rw cm sn cp h1 => by obtain ⟨j, h2, h3⟩ := h.2 b hb _ _ _ _ _ _ _ _ h1; exact ⟨j, by omega, h3⟩⟩
theorem inst_fl {S : ts} {gl : List Nat} {lv : Int32} {g : Nat} (hg : g ∈ gl) (hn : g < S.1) : (ts_inst S gl lv).2.2.1 (S.1 + gl.idxOf g) = S.2.2.1 g ∧ (ts_inst S gl lv).2.2.2.1 (S.1 + gl.idxOf g) = S.2.2.2.1 g ∧ (ts_inst S gl lv).2.2.1 g = S.2.2.1 g ∧ (ts_inst S gl lv).2.2.2.1 g = S.2.2.2.1 g := by
  have h1 : gl[gl.idxOf g]? = some g := by rw [List.getElem?_eq_getElem (List.idxOf_lt_length_of_mem hg)]; exact congrArg some (List.getElem_idxOf _)
  refine ⟨?_, ?_, ?_, ?_⟩
  · show S.2.2.1 (uog gl S.1 (S.1 + gl.idxOf g)) = _; rw [uog_new h1]
  · show S.2.2.2.1 (uog gl S.1 (S.1 + gl.idxOf g)) = _; rw [uog_new h1]
  · show S.2.2.1 (uog gl S.1 g) = _; rw [uog_lt hn]
  · show S.2.2.2.1 (uog gl S.1 g) = _; rw [uog_lt hn]
/-- a general type variable's own cell while new ones are made -/
theorem mIn.cellT {n : Nat} {gl : List Nat} {kk : Nat → Bool} {M : mm_M} {L : List Nat} {vr : Nat → Nat} {D : Nat → Bool} {S' : ts} {st : Nat} {gs : List Nat} {M' : mm_M} {L' : List Nat} {vr' : Nat → Nat} {D' : Nat → Bool} (h : mIn n gl kk M L vr D S' st gs M' L' vr' D') (hKd : mKd M vr D kk) {g : Nat} (hD : D g = true) (hk : kk g = false) (hs : S'.2.1 g = .var g) : ∃ sn cp, M' (vr g) = some (mt_E 0 none none none none (S'.2.2.1 g) sn cp) := by
  obtain ⟨is, cm, sn, cp, k⟩ := (hKd g hD).1 hk
  obtain ⟨is', cm', sn', cp', k'⟩ := h.1.2.1.T k
  obtain ⟨e1, e2⟩ := h.2.2.1.1 g hD
  rcases (h.1.1.2.1 g e1).2 with ⟨is9, sn9, cp9, k1, k2⟩ | ⟨is9, k1, k2⟩
  · rw [e2] at k1
    have := k2.2 hs
    subst this
    exact ⟨_, _, k1⟩
  · rw [e2, k'] at k1; exact absurd (Option.some.inj k1) mt_ne_mr
theorem mIn.cellR {n : Nat} {gl : List Nat} {kk : Nat → Bool} {M : mm_M} {L : List Nat} {vr : Nat → Nat} {D : Nat → Bool} {S' : ts} {st : Nat} {gs : List Nat} {M' : mm_M} {L' : List Nat} {vr' : Nat → Nat} {D' : Nat → Bool} (h : mIn n gl kk M L vr D S' st gs M' L' vr' D') (hKd : mKd M vr D kk) {g : Nat} (hD : D g = true) (hk : kk g = true) (hs : S'.2.1 g = .var g) : M' (vr g) = some (mr_E 0 none 0 none none (S'.2.2.2.1 g) (S'.2.2.1 g)) := by
  obtain ⟨is, lk, cm, k⟩ := (hKd g hD).2 hk
  obtain ⟨is', cm', k'⟩ := h.1.2.1.R k
  obtain ⟨e1, e2⟩ := h.2.2.1.1 g hD
  rcases (h.1.1.2.1 g e1).2 with ⟨is9, sn9, cp9, k1, k2⟩ | ⟨is9, k1, k2⟩
  · rw [e2, k'] at k1; exact absurd (Option.some.inj k1).symm mt_ne_mr
  · rw [e2] at k1
    have := k2.2 hs
    subst this
    exact k1
/-- where the walk begins -/
theorem mIn.start {n : Nat} {gl : List Nat} {kk : Nat → Bool} {M : mm_M} {L : List Nat} {vr : Nat → Nat} {D : Nat → Bool} {S' : ts} {st : Nat} {gs : List Nat} {M' : mm_M} {L' : List Nat} {vr' : Nat → Nat} {D' : Nat → Bool} (h : mIn n gl kk M L vr D S' (st + 1) gs M' L' vr' D') (hgs : ∀ x ∈ gs, x ∈ gl ∧ D x = true ∧ S'.2.1 x = .var x) (hsn : ∀ x ∈ gl, S'.2.1 (n + gl.idxOf x) = .var (n + gl.idxOf x)) : NM M' L' vr' D' S' gl n (nJ (st + 1)) M' L' := by
  obtain ⟨⟨a1, a2, a3⟩, ⟨b1, b2, b3⟩, ⟨c1, c2⟩, d1, d2, d3⟩ := h
  refine ⟨mL.rf _, ⟨fun _ h => h, fun z hz hn => absurd hz hn⟩, a1, fun b hb hm tb htb => ?_⟩
  obtain ⟨g, hg, hk, rfl⟩ := d1 b hb hm
  obtain ⟨⟨cm, k1⟩, cm2, sn2, cp2, k2⟩ := d2 g hg hk
  obtain ⟨h1, h2, h3⟩ := hgs g hg
  obtain ⟨e1, e2⟩ := c1 g h2
  have hv : mtp M' L' vr' D' (.var g) false (vr g) := e2 ▸ mtp_varT e1 (a1.2.1 g e1).1 (by rw [e2]; exact k1)
  obtain ⟨rfl, -⟩ := mtp.uniq a1.1.2.2.1 _ _ _ _ _ htb hv
  have hDn := (c2 (n + gl.idxOf g)).2 (Or.inr ⟨g, hg, rfl⟩)
  refine ⟨_, _, _, _, _, _, _, k1, ⟨.var (n + gl.idxOf g), mtp_varT hDn (a1.2.1 _ hDn).1 k2, ?_⟩, fun h9 => ?_⟩
  · show S'.2.1 _ = uap (uth gl n) (S'.2.1 g)
    rw [hsn g h1, h3]; show _ = uth gl n g; rw [uth_in h1]
  · have := h9 g h1
    rw [show uap S'.2.1 (.var g) = S'.2.1 g from rfl, h3] at this
    simp [uoc] at this
theorem mIn.nu {n : Nat} {gl : List Nat} {kk : Nat → Bool} {M : mm_M} {L : List Nat} {vr : Nat → Nat} {D : Nat → Bool} {S' : ts} {st : Nat} {gs : List Nat} {M' : mm_M} {L' : List Nat} {vr' : Nat → Nat} {D' : Nat → Bool} (h : mIn n gl kk M L vr D S' (st + 1) gs M' L' vr' D') {S : ts} (hC : mCI M L vr D S) (hs2 : S'.2.1 = S.2.1) (hgn : ∀ g ∈ gl, g < n) (hgs : ∀ x ∈ gs, x ∈ gl) (hsn : ∀ x ∈ gl, S'.2.1 (n + gl.idxOf x) = .var (n + gl.idxOf x)) : mNu M' M' L' vr' D' S' gl (nJ (st + 1)) ≤ mGn M L vr D S gl := by
  obtain ⟨⟨a1, a2, a3⟩, ⟨b1, b2, b3⟩, ⟨c1, c2⟩, d1, d2, d3⟩ := h
  unfold mNu mGn
  rw [List.countP_eq_length_filter, List.countP_eq_length_filter]
  refine nodup_sub (a1.1.2.1.sublist List.filter_sublist) (fun b hb => ?_)
  rw [List.mem_filter] at hb ⊢
  obtain ⟨hb, h9⟩ := hb
  simp only [decide_eq_true_eq] at h9 ⊢
  obtain ⟨⟨tb, htb, hno⟩, -⟩ := h9
  rcases b3 b hb with hbL | ⟨g, hg, rfl⟩
  · refine ⟨hbL, ?_⟩
    obtain ⟨m, t, k⟩ := hC.2.2.1 b hbL
    obtain ⟨e1, e2⟩ := mtp.uniq a1.1.2.2.1 _ _ _ _ _ htb (mtp.mono a2 b1 c1 _ _ _ k)
    subst e1; subst e2
    exact ⟨tb, k, by rw [← hs2]; exact hno⟩
  · exfalso
    have hDn := (c2 (n + gl.idxOf g)).2 (Or.inr ⟨g, hg, rfl⟩)
    cases hk : kk g with
    | true =>
      obtain ⟨lk, cm, k⟩ := d3 g hg hk
      obtain ⟨-, k8, is8, fr8, to8, rw8, cm8, sn8, cp8, k9⟩ := htb.cellT
      rw [k] at k9; exact mt_ne_mr (Option.some.inj k9).symm
    | false =>
      obtain ⟨-, cm, sn, cp, k⟩ := d2 g hg hk
      obtain ⟨rfl, -⟩ := mtp.uniq a1.1.2.2.1 _ _ _ _ _ htb (mtp_varT hDn (a1.2.1 _ hDn).1 k)
      refine hno (fun x hx => ?_)
      rw [show uap S'.2.1 (.var (n + gl.idxOf g)) = S'.2.1 (n + gl.idxOf g) from rfl, hsn g (hgs g hg)]
      exact beq_eq_false_iff_ne.2 (fun e => by have := hgn x hx; have e9 : n + gl.idxOf g = x := e; omega)

set_option maxHeartbeats 4000000 in
set_option maxRecDepth 100000 in
theorem d_X2_renewed (l : Launch) (Z : mm_G) {M : mm_M} {md ka wh f1 f2 f3 wg pl : Nat} {tm ea sp th ak wr tk : Int32} {rt : Option Nat} {fa : Bool} {L : List Nat} {vr : Nat → Nat} {D : Nat → Bool} {S : ts} {kk : Nat → Bool} {t : ev} {kq nm st ty lt lr art cpt arr cpr : Nat} {nx : Option Nat} {gt gr gl : List Nat} {lv : Int32} (hmd : M md = some (md_E tm ka wh f1 f2 f3 wg ea sp rt th ak wr pl tk fa (nJ st))) (hC : mCI M L vr D S) (hSt : mSt M L st) (hst : st + 1 < 2 ^ 62) (hkq : M kq = some (mn_E nm ty lt lr nx)) (hlt : AL Z M lt art cpt (gt.map fun v => some (vr v))) (hlr : AL Z M lr arr cpr (gr.map fun v => some (vr v))) (htp : mtp M L vr D t false ty) (hww : uwf (uG S kk) false (uap S.2.1 t)) (hKd : mKd M vr D kk) (hgl : gl.Nodup) (hgm : ∀ g, g ∈ gl ↔ g ∈ gt ∨ g ∈ gr) (hgt : gt.Nodup ∧ ∀ g ∈ gt, D g = true ∧ S.2.1 g = .var g ∧ kk g = false) (hgr : gr.Nodup ∧ ∀ g ∈ gr, D g = true ∧ S.2.1 g = .var g ∧ kk g = true) (hG9 : gl.length < 2 ^ 15) : mm_D l Z yX2_renewed (ws_ yX2_renewed cX2_renewed 8 (some (.object "RowenTongueModel$Type"))) { frames := 2 * uz (uap S.2.1 t) + 20, cells := 1 + gl.length + 12 * mGn M L vr D S gl + 12 * uz (uap S.2.1 t), slots := 9 * gl.length + 8 * (12 * mGn M L vr D S gl + 12 * uz (uap S.2.1 t)), locals := 30 * uz (uap S.2.1 t) + 700 } [.ref md, .ref kq] M (fun v M' n9 k9 => ∃ (a' : Nat) (L' : List Nat) (vr' : Nat → Nat) (D' : Nat → Bool) (t' : ev), v = some (.ref a') ∧ mCI M' L' vr' D' (ts_inst S gl lv) ∧ mSt M' L' (st + 1) ∧ M' md = some (md_E tm ka wh f1 f2 f3 wg ea sp rt th ak wr pl tk fa (nJ (st + 1))) ∧ mK M M' ∧ (∀ z ∈ L, z ∈ L') ∧ (∀ v, D v = true → D' v = true ∧ vr' v = vr v) ∧ (∀ v, D' v = true ↔ D v = true ∨ ∃ g ∈ gl, v = S.1 + gl.idxOf g) ∧ mKd M' vr' D' (fun v => kk (uog gl S.1 v)) ∧ mtp M' L' vr' D' t' false a' ∧ uap S.2.1 t' = uap (uth gl S.1) (uap S.2.1 t) ∧ n9 ≤ 1 + gl.length + 12 * mGn M L vr D S gl ∧ k9 ≤ 9 * gl.length + 96 * mGn M L vr D S gl ∧ L'.length ≤ L.length + gl.length + n9) mm_nx := by
  refine mm_ofWD (cc := cX2_renewed) (maxL := 8) (ret := (some (.object "RowenTongueModel$Type"))) (by decide) rfl (Nat.le_of_ble_eq_true rfl) ?_
  intro p e s m below meth c A ls hx hb hr hlk hml hown hmn hts htab hE hST hA hM hS hl
  replace hl : lv_has ls 8 [(0, .ref md), (1, .ref kq)] := hl
  obtain ⟨hgt1, hgt2⟩ := hgt
  obtain ⟨hgr1, hgr2⟩ := hgr
  have hDn : ∀ v, D v = true → v < S.1 := hC.1.2.2.2.2.1
  have hgD : ∀ g ∈ gl, D g = true ∧ S.2.1 g = .var g := fun g hg => by rcases (hgm g).1 hg with h9 | h9; exact ⟨(hgt2 g h9).1, (hgt2 g h9).2.1⟩; exact ⟨(hgr2 g h9).1, (hgr2 g h9).2.1⟩
  have hdis : ∀ g ∈ gt, g ∉ gr := fun g h1 h2 => by have h3 := (hgt2 g h1).2.2; rw [(hgr2 g h2).2.2] at h3; cases h3
  have hlen : gt.length + gr.length ≤ gl.length := by
    have h9 := nodup_sub (List.nodup_append.2 ⟨hgt1, hgr1, fun a ha b hb e => hdis a ha (e ▸ hb)⟩) (L := gl) (fun z hz => (hgm z).2 (List.mem_append.1 hz))
    rwa [List.length_append] at h9
  obtain ⟨S1, hS1⟩ : ∃ S1, S1 = ts_inst S gl lv := ⟨_, rfl⟩
  have hS11 : S1.1 = S.1 + gl.length := by rw [hS1]; rfl
  have hS12 : S1.2.1 = S.2.1 := by rw [hS1]; rfl
  have hfl : ∀ g ∈ gl, S1.2.2.1 (S.1 + gl.idxOf g) = S.2.2.1 g ∧ S1.2.2.2.1 (S.1 + gl.idxOf g) = S.2.2.2.1 g ∧ S1.2.2.1 g = S.2.2.1 g ∧ S1.2.2.2.1 g = S.2.2.2.1 g := fun g hg => by rw [hS1]; exact inst_fl hg (hDn g (hgD g hg).1)
  have hfo : ∀ v, D v = true → S1.2.2.1 v = S.2.2.1 v ∧ S1.2.2.2.1 v = S.2.2.2.1 v := fun v hv => by rw [hS1]; exact ⟨congrArg _ (uog_lt (hDn v hv)), congrArg _ (uog_lt (hDn v hv))⟩
  have hsn : ∀ g ∈ gl, S1.2.1 (S.1 + gl.idxOf g) = .var (S.1 + gl.idxOf g) := fun g _ => by rw [hS12]; exact hC.1.2.2.2.1 _ (Nat.le_add_right _ _)
  rw [← hS1]
  obtain ⟨mdr, fr8, hpr, -⟩ := id hlr
  rw [List.length_map] at hpr
  refine lv_aload_n hx hb dX2_renewed_0 rfl (lv_at hl 1 rfl) ?_
  refine va_get (D := Z.1) (ci := 23) (v := .ref lr) (C := RX28) (T := TX28) (N := 5) hx hb hts in_X28 hown hE.1 (hM.at hkq) 0 rfl mm_cX28 3 (by decide) (hts _ q2640) (fun _ h9 => h9) rfl dX2_renewed_1 ?_
  refine mm_callV (As := []) (rest := []) ⟨hx, hb, hml, hown, hts⟩ hE hST hA (c_J2_size l Z (M := M) (h0 := lr) (f0 := mdr) (f1 := (some arr)) (f2 := (nI gr.length)) hpr) (cwV 0 hts (lw_V q2560 q178 q179 q53 q180) rfl rfl rfl (by decide +kernel) ⟨(by (try dsimp only); omega), (by (try dsimp only); omega)⟩) hM hS mm_cJ2 hpr rfl hl.1 (Nat.le_of_ble_eq_true rfl) dX2_renewed_4 rfl ⟨(by (try dsimp only); omega), (by (try dsimp only); omega)⟩ (fun _ _ _ _ _ _ h9 => h9.elim) (fun v_1 M_2 H locs hp_3 hM hS => ?_)
  obtain ⟨rfl, eM_2⟩ := hp_3
  rw [eM_2] at hM
  refine mm_newq hx hb hown (hts _ q2561) (hE.2.2.2.2.1 _ (by decide)) hE.1 hM hS hA 7 rfl (nI_pos (by omega)) (nI_clamp (by omega)) (by omega) (by (try dsimp only); omega) (by (try dsimp only); omega) dX2_renewed_7 (fun q_4 H nq_5 hM hS => ?_)
  have hM : mm_P Z.1 mm_cl A (mm_U M q_4 (.inl (Z.2.1 7, gr.length, .inr (.inr (.inr (.inr (fun _ => none))))))) H := hM
  have ne_6 : md ≠ q_4 := (mm_neN hmd nq_5)
  have ne_7 : kq ≠ q_4 := (mm_neN hkq nq_5)
  have ne_8 : lr ≠ q_4 := (mm_neN hpr nq_5)
  have hc_9 : (mm_U M q_4 (.inl (Z.2.1 7, gr.length, .inr (.inr (.inr (.inr (fun _ => none))))))) q_4 = some (.inl (Z.2.1 7, gr.length, .inr (.inr (.inr (.inr (fun _ => none)))))) := mm_U_eq
  have hc_10 : (mm_U M q_4 (.inl (Z.2.1 7, gr.length, .inr (.inr (.inr (.inr (fun _ => none))))))) md = some (.inr (1, [.int tm, .ref ka, .ref wh, .ref f1, .ref f2, .ref f3, .ref wg, .int ea, .int sp, va_rf rt, .int th, .int ak, .int wr, .ref pl, .int tk, .int (mm_b fa), .long (nJ st)])) := (mm_U_ne ne_6).trans hmd
  have hc_11 : (mm_U M q_4 (.inl (Z.2.1 7, gr.length, .inr (.inr (.inr (.inr (fun _ => none))))))) kq = some (.inr (23, [.int (nI nm), .ref ty, .ref lt, .ref lr, va_rf nx])) := (mm_U_ne ne_7).trans hkq
  have hc_12 : (mm_U M q_4 (.inl (Z.2.1 7, gr.length, .inr (.inr (.inr (.inr (fun _ => none))))))) lr = some (.inr (41, [.int mdr, .ref arr, .int (nI gr.length)])) := (mm_U_ne ne_8).trans hpr
  obtain ⟨M_13, eM_13⟩ : ∃ z, z = mm_U M q_4 (.inl (Z.2.1 7, gr.length, .inr (.inr (.inr (.inr (fun _ => none)))))) := ⟨_, rfl⟩
  rw [← eM_13] at hM hc_10 hc_11 hc_12 hc_9
  refine lv_astore_n hx hb dX2_renewed_10 rfl hl (by decide) rfl (fun ls hl => ?_)
  replace hl : lv_has ls 8 [(2, .ref q_4), (0, .ref md), (1, .ref kq)] := hl
  refine lv_aload_n hx hb dX2_renewed_11 rfl (lv_at hl 1 rfl) ?_
  have hx0 : mm_Ext M M_13 := by subst eM_13; exact mm_Ext.U nq_5
  have hra0 := hc_9
  have hC0 := hC.ext hx0
  have hSt0 := hSt.ext hC hx0
  refine mm_callV (As := []) (rest := []) ⟨hx, hb, hml, hown, hts⟩ hE hST hA (c_X2_nextStamp l Z (f0 := tm) (f1 := some ka) (f2 := some wh) (f3 := some f1) (f4 := some f2) (f5 := some f3) (f6 := some wg) (f7 := ea) (f8 := sp) (f9 := rt) (f10 := th) (f11 := ak) (f12 := wr) (f13 := some pl) (f14 := tk) (f15 := fa) (f16 := nJ st) hc_10) (cwV 0 hts (lw_V q2563 q2565 qs37 q54 q2566) rfl rfl rfl (by decide +kernel) ⟨(by (try dsimp only); omega), (by (try dsimp only); omega)⟩) hM hS mm_cX2 hc_10 rfl hl.1 (Nat.le_of_ble_eq_true rfl) dX2_renewed_12 rfl ⟨(by (try dsimp only); omega), (by (try dsimp only); omega)⟩ (fun _ _ _ _ _ _ h9 => h9.elim) (fun v_14 M_15 H locs hp_16 hM hS => ?_)
  obtain ⟨rfl, eM_15⟩ := hp_16
  rw [nJ_1] at eM_15
  rw [nJ_1]
  have hs_17C : mCI M_15 L vr D S := by rw [eM_15]; exact mCI.putM hC0 hc_10
  have hs_17S : mSt M_15 L st := by rw [eM_15]; exact mSt.putM hSt0 hc_10
  have hs_17M : M_15 md = some (md_E tm ka wh f1 f2 f3 wg ea sp rt th ak wr pl tk fa (nJ (st + 1))) := by rw [eM_15]; exact mm_U_eq
  have hs_17q : ∀ q, q ≠ md → M_15 q = M_13 q := fun q h => by rw [eM_15]; exact mm_U_ne h
  have hK1 : mK M M_15 := hx0.mK.trans (by rw [eM_15]; exact mK.putM hc_10)
  have hra1 : M_15 q_4 = some (.inl (Z.2.1 7, gr.length, .inr (.inr (.inr (.inr (fun _ => none)))))) := (hs_17q _ (mm_neA hra0 hc_10)).trans hra0
  have hin1 : mIn S.1 gl kk M L vr D S1 (st + 1) [] M_15 L vr D := ⟨⟨hs_17C.st (by omega) hS12 hfo, hK1, hs_17S.up hst⟩, ⟨fun _ h => h, Nat.le_refl _, fun z hz => Or.inl hz⟩, ⟨fun v h => ⟨h, rfl⟩, fun v => ⟨Or.inl, fun h => h.elim id (fun ⟨g, hg, _⟩ => absurd hg List.not_mem_nil)⟩⟩, fun b hb hm => (hs_17S.no hst hb hm).elim, fun g hg => absurd hg List.not_mem_nil, fun g hg => absurd hg List.not_mem_nil⟩
  have hmd1 := hs_17M
  refine lv_lstore_n hx hb dX2_renewed_15 rfl hl (by decide) rfl (fun ls hl => ?_)
  replace hl : lv_has ls 8 [(3, .long (nJ (st + 1))), (2, .ref q_4), (0, .ref md), (1, .ref kq)] := hl
  refine lv_iconst (v := 0) hx hb dX2_renewed_16 (by decide) ?_
  refine lv_istore hx hb dX2_renewed_17 hl (by decide) rfl (fun ls hl => ?_)
  replace hl : lv_has ls 8 [(5, .int 0), (3, .long (nJ (st + 1))), (2, .ref q_4), (0, .ref md), (1, .ref kq)] := hl
  refine mm_loopW (fun k M' ls cells slots => ∃ (j : Nat) (L' : List Nat) (vr' : Nat → Nat) (D' : Nat → Bool), k = gt.length - j ∧ j ≤ gt.length ∧ lv_has ls 8 [(5, .int (nI j)), (0, .ref md), (1, .ref kq), (2, .ref q_4), (3, .long (nJ (st + 1)))] ∧ mIn S.1 gl kk M L vr D S1 (st + 1) (gt.take j) M' L' vr' D' ∧ M' md = some (md_E tm ka wh f1 f2 f3 wg ea sp rt th ak wr pl tk fa (nJ (st + 1))) ∧ M' q_4 = some (.inl (Z.2.1 7, gr.length, .inr (.inr (.inr (.inr (fun _ => none)))))) ∧ cells ≤ 1 + j ∧ slots ≤ gr.length + 8 * j) (fun k M3 ls H locs cells slots ih hI hM hS => ?_) ⟨0, L, vr, D, rfl, Nat.zero_le _, lv_sub hl [0, 3, 4, 2, 1] rfl, hin1, hmd1, hra1, by (try dsimp only); omega, by (try dsimp only); omega⟩ hM hS
  clear hin1 hmd1 hra1 hK1 hra0
  obtain ⟨j, L3, vr3, D3, rfl, hj9, hl, hin, hmd3, hra3, hc9, hs9⟩ := hI
  have hkq3 := hin.1.2.1.atC hkq (by decide)
  have hlt3 := hlt.mK hin.1.2.1
  obtain ⟨mdp, fp, hpt, -⟩ := id hlt3
  rw [List.length_map] at hpt
  refine lv_iload hx hb dX2_renewed_19 (lv_at hl 0 rfl) ?_
  refine lv_aload_n hx hb dX2_renewed_21 rfl (lv_at hl 2 rfl) ?_
  refine va_get (D := Z.1) (ci := 23) (v := .ref lt) (C := RX28) (T := TX28) (N := 5) hx hb hts in_X28 hown hE.1 (hM.at hkq3) 0 rfl mm_cX28 2 (by decide) (hts _ q2638) (fun _ h9 => h9) rfl dX2_renewed_22 ?_
  refine mm_callV (As := []) (rest := [.int (nI j)]) ⟨hx, hb, hml, hown, hts⟩ hE hST hA (c_J2_size l Z (M := M3) (h0 := lt) (f0 := mdp) (f1 := (some art)) (f2 := (nI gt.length)) hpt) (cwV 0 hts (lw_V q2560 q178 q179 q53 q180) rfl rfl rfl (by decide +kernel) ⟨(by (try dsimp only); omega), (by (try dsimp only); omega)⟩) hM hS mm_cJ2 hpt rfl hl.1 (Nat.le_of_ble_eq_true rfl) dX2_renewed_25 rfl ⟨(by (try dsimp only); omega), (by (try dsimp only); omega)⟩ (fun _ _ _ _ _ _ h9 => h9.elim) (fun v_18 M_19 H locs hp_20 hM hS => ?_)
  obtain ⟨rfl, eM_19⟩ := hp_20
  rw [eM_19] at hM
  refine lv_icmp_ge (tgt := 84) hx hb dX2_renewed_28 (by decide) (fun c_21 => ?_) (fun c_21 => ?_)
  · skip
    obtain rfl : j = gt.length := by have := (nI_leI (by omega) (by omega)).1 c_21; omega
    rw [List.take_length] at hin
    refine lv_iconst (v := 0) hx hb dX2_renewed_84 (by decide) ?_
    refine lv_istore hx hb dX2_renewed_85 hl (by decide) rfl (fun ls hl => ?_)
    replace hl : lv_has ls 8 [(5, .int 0), (0, .ref md), (1, .ref kq), (2, .ref q_4), (3, .long (nJ (st + 1)))] := hl
    refine mm_loopW (fun k M' ls cells slots => ∃ (i : Nat) (L' : List Nat) (vr' : Nat → Nat) (D' : Nat → Bool) (f9 : Nat → Option Nat), k = gr.length - i ∧ i ≤ gr.length ∧ lv_has ls 8 [(5, .int (nI i)), (0, .ref md), (1, .ref kq), (2, .ref q_4), (3, .long (nJ (st + 1)))] ∧ mIn S.1 gl kk M L vr D S1 (st + 1) (gt ++ gr.take i) M' L' vr' D' ∧ M' md = some (md_E tm ka wh f1 f2 f3 wg ea sp rt th ak wr pl tk fa (nJ (st + 1))) ∧ M' q_4 = some (.inl (Z.2.1 7, gr.length, .inr (.inr (.inr (.inr f9))))) ∧ (∀ j g, j < i → gr[j]? = some g → f9 j = some (vr' (S.1 + gl.idxOf g))) ∧ cells ≤ 1 + gt.length + i ∧ slots ≤ gr.length + 8 * gt.length + 8 * i) (fun k M4 ls H locs cells slots ih8 hI hM hS => ?_) ⟨0, L3, vr3, D3, _, rfl, Nat.zero_le _, lv_sub hl [0, 1, 2, 3, 4] rfl, (by rw [List.take_zero, List.append_nil]; exact hin), hmd3, hra3, (fun j g h => absurd h (Nat.not_lt_zero _)), by (try dsimp only); omega, by (try dsimp only); omega⟩ hM hS
    clear hin hmd3 hra3 hkq3 hlt3 hpt
    obtain ⟨i, L4, vr4, D4, f9, rfl, hi9, hl, hin, hmd4, hra4, hf9, hc10, hs10⟩ := hI
    have hkq4 := hin.1.2.1.atC hkq (by decide)
    have hlr4 := hlr.mK hin.1.2.1
    have hlt4 := hlt.mK hin.1.2.1
    obtain ⟨mdq, fq, hpq, -⟩ := id hlr4
    rw [List.length_map] at hpq
    refine lv_iload hx hb dX2_renewed_87 (lv_at hl 0 rfl) ?_
    refine lv_aload_n hx hb dX2_renewed_89 rfl (lv_at hl 3 rfl) ?_
    refine mm_alen hx hb hE hM 7 hra4 rfl dX2_renewed_90 ?_
    refine lv_icmp_ge (tgt := 144) hx hb dX2_renewed_91 (by decide) (fun c_22 => ?_) (fun c_22 => ?_)
    · skip
      obtain rfl : i = gr.length := by have := (nI_leI (by omega) (by omega)).1 c_22; omega
      rw [List.take_length] at hin
      obtain ⟨mdp, fp, hpt, -⟩ := id hlt4
      rw [List.length_map] at hpt
      refine lv_aload_n hx hb dX2_renewed_144 rfl (lv_at hl 2 rfl) ?_
      refine va_get (D := Z.1) (ci := 23) (v := .ref lt) (C := RX28) (T := TX28) (N := 5) hx hb hts in_X28 hown hE.1 (hM.at hkq4) 0 rfl mm_cX28 2 (by decide) (hts _ q2638) (fun _ h9 => h9) rfl dX2_renewed_145 ?_
      refine mm_callV (As := []) (rest := []) ⟨hx, hb, hml, hown, hts⟩ hE hST hA (c_J2_isEmpty l Z hlt4) (cwV 0 hts (lw_V q2600 q2232 q2233 q53 q2234) rfl rfl rfl (by decide +kernel) ⟨(by (try dsimp only); omega), (by (try dsimp only); omega)⟩) hM hS mm_cJ2 hpt rfl hl.1 (Nat.le_of_ble_eq_true rfl) dX2_renewed_148 rfl ⟨(by (try dsimp only); omega), (by (try dsimp only); omega)⟩ (fun _ _ _ _ _ _ h9 => h9.elim) (fun v_23 M_24 H locs hp_25 hM hS => ?_)
      obtain ⟨rfl, eM_24⟩ := hp_25
      rw [eM_24] at hM
      have hgs : ∀ z ∈ gt ++ gr, z ∈ gl ∧ D z = true ∧ S1.2.1 z = .var z := fun z hz => by have h9 := (hgm z).2 (List.mem_append.1 hz); rw [hS12]; exact ⟨h9, hgD z h9⟩
      have hDD : ∀ v, D4 v = true ↔ D v = true ∨ ∃ g ∈ gl, v = S.1 + gl.idxOf g := fun v => by rw [hin.2.2.1.2 v]; exact ⟨fun h => h.imp id (fun ⟨g, hg, e⟩ => ⟨g, (hgs g hg).1, e⟩), fun h => h.imp id (fun ⟨g, hg, e⟩ => ⟨g, List.mem_append.2 ((hgm g).1 hg), e⟩)⟩
      have hkd4 : mKd M4 vr4 D4 (fun v => kk (uog gl S.1 v)) := fun v hv => by
        rcases (hin.2.2.1.2 v).1 hv with h9 | ⟨g, hg, rfl⟩
        · dsimp only
          rw [uog_lt (hDn v h9), (hin.2.2.1.1 v h9).2]
          exact (hKd.mono hin.1.2.1) v h9
        · have hg2 := (hgs g hg).1
          have h1 : gl[gl.idxOf g]? = some g := by rw [List.getElem?_eq_getElem (List.idxOf_lt_length_of_mem hg2)]; exact congrArg some (List.getElem_idxOf _)
          dsimp only
          rw [uog_new h1]
          refine ⟨fun hk => ?_, fun hk => ?_⟩
          · obtain ⟨-, cm, sn, cp, k⟩ := hin.2.2.2.2.1 g hg hk; exact ⟨_, _, _, _, k⟩
          · obtain ⟨lk, cm, k⟩ := hin.2.2.2.2.2 g hg hk; exact ⟨_, _, _, k⟩
      have hnu := hin.nu hC hS12 (fun g hg => hDn g (hgD g hg).1) (fun z hz => (hgs z hz).1) hsn
      have hll := hin.2.1.2.1
      rw [List.length_append] at hll
      have htp4 := mtp.mono hin.1.2.1 hin.2.1.1 hin.2.2.1.1 _ _ _ htp
      refine lv_if_eq (tgt := 166) hx hb dX2_renewed_151 (by decide) (fun c_26 => ?_) (fun c_26 => ?_)
      · skip
        have hug : ug_le (uG S kk) (uG S1 (fun v => kk (uog gl S.1 v))) := by
          rw [hS1]; exact ⟨Nat.le_add_right _ _, fun v hv => ⟨congrArg kk (uog_lt hv), congrArg S.2.2.2.1 (uog_lt hv)⟩⟩
        have hRen := (c_renewedM l Z M4 L4 vr4 D4 S1 (fun v => kk (uog gl S.1 v)) gl gr S.1 nm (nJ (st + 1)) kq ty lt lr q_4 arr cpr nx f9 hin.1.1 hkq4 (by
          rw [List.map_congr_left (f := fun v => some (vr4 v)) (g := fun v => some (vr v)) (fun v hv => by rw [(hin.2.2.1.1 v (hgr2 v hv).1).2])]
          exact hlr4) hra4 (fun j g hg => hf9 j g (by
          rcases Nat.lt_or_ge j gr.length with h9 | h9
          · exact h9
          · rw [List.getElem?_eq_none h9] at hg; cases hg) hg)
          (fun g hg => ⟨(hgm g).2 (Or.inr hg), (hin.2.2.1.1 g (hgr2 g hg).1).1⟩)
          (fun g hg hk => by
            (try dsimp only at hk)
            rw [uog_lt (hDn g (hgD g hg).1)] at hk
            rcases (hgm g).1 hg with h9 | h9
            · rw [(hgt2 g h9).2.2] at hk; cases hk
            · exact h9)
          (fun g hg hk => by
            (try dsimp only at hk)
            rw [uog_lt (hDn g (hgD g hg).1)] at hk
            obtain ⟨⟨cm, k⟩, -⟩ := hin.2.2.2.2.1 g (List.mem_append.2 ((hgm g).1 hg)) hk
            rw [(hin.2.2.1.1 g (hgD g hg).1).2]; exact ⟨_, _, _, _, _, _, _, k⟩)
          (fun g hg => by
            obtain ⟨lk, cm, k⟩ := hin.2.2.2.2.2 g (List.mem_append_right _ hg) (hgr2 g hg).2.2
            exact ⟨(hin.2.2.1.2 _).2 (Or.inr ⟨g, List.mem_append_right _ hg, rfl⟩), hsn g ((hgm g).2 (Or.inr hg)), _, _, _, k⟩)
          (Ne.symm (nJ_ne hst)) (by omega) (SizeOf.sizeOf (uap S1.2.1 t) + 1)).1 (uap S1.2.1 t) t ty M4 L4 (Nat.lt_succ_self _) rfl (by rw [hS12]; exact hww.mono hug) (fun u hu => by rw [hS12] at hu; exact uwf.lt hww u hu) (hin.start hgs hsn) htp4
        rw [hS12] at hRen
        refine lv_aload_n hx hb dX2_renewed_166 rfl (lv_at hl 2 rfl) ?_
        refine va_get (D := Z.1) (ci := 23) (v := .ref ty) (C := RX28) (T := TX28) (N := 5) hx hb hts in_X28 hown hE.1 (hM.at hkq4) 0 rfl mm_cX28 1 (by decide) (hts _ q2636) (fun _ h9 => h9) rfl dX2_renewed_167 ?_
        refine lv_aload_n hx hb dX2_renewed_170 rfl (lv_at hl 2 rfl) ?_
        refine lv_aload_n hx hb dX2_renewed_171 rfl (lv_at hl 3 rfl) ?_
        refine lv_lload_n hx hb dX2_renewed_172 rfl (lv_at hl 4 rfl) ?_
        refine mm_callSD (As := [.ref ty, .ref kq, .ref q_4, .long (nJ (st + 1))]) (rest := []) ⟨hx, hb, hml, hown, hts⟩ hE hST hA hRen (va_cwS 4 hts (lw_S q2601 q2602 q54 q2603) rfl rfl rfl (by decide +kernel) ⟨(by (try dsimp only); omega), (by (try dsimp only); omega)⟩) hM hS rfl hl.1 (Nat.le_of_ble_eq_true rfl) dX2_renewed_173 rfl ⟨(by (try dsimp only); omega), (by (try dsimp only); omega)⟩ (fun _ _ _ _ _ _ h9 => h9.elim) (fun v_27 M_28 n_30 k_31 H locs hp_29 hM hS => ?_)
        obtain ⟨a5, L5, t5, rfl, hN5, hL5, hs5, ht5, he5, -, hn5, hk5, hl5, -⟩ := hp_29
        exact mm_retaD hx hb hr (Or.inl ⟨_, rfl⟩) (Or.inr ⟨_, rfl⟩) hlk hM hS ⟨a5, L5, vr4, D4, t5, rfl, hN5.2.2.1, hN5.st hin.1.2.2 hin.1.1, hL5.atC hmd4 (by decide), hin.1.2.1.trans hL5.K, fun z h => hs5 z (hin.2.1.1 z h), hin.2.2.1.1, hDD, hkd4.mono hL5.K, ht5, he5, by (try dsimp only); omega, by (try dsimp only); omega, by (try dsimp only); omega⟩ dX2_renewed_176 (by (try dsimp only); omega) (by (try dsimp only); omega)
      · skip
        refine lv_aload_n hx hb dX2_renewed_154 rfl (lv_at hl 3 rfl) ?_
        refine mm_alen hx hb hE hM 7 hra4 rfl dX2_renewed_155 ?_
        refine lv_if_ne (tgt := 166) hx hb dX2_renewed_156 (by decide) (fun c_27 => ?_) (fun c_27 => ?_)
        · skip
          have hug : ug_le (uG S kk) (uG S1 (fun v => kk (uog gl S.1 v))) := by
            rw [hS1]; exact ⟨Nat.le_add_right _ _, fun v hv => ⟨congrArg kk (uog_lt hv), congrArg S.2.2.2.1 (uog_lt hv)⟩⟩
          have hRen := (c_renewedM l Z M4 L4 vr4 D4 S1 (fun v => kk (uog gl S.1 v)) gl gr S.1 nm (nJ (st + 1)) kq ty lt lr q_4 arr cpr nx f9 hin.1.1 hkq4 (by
            rw [List.map_congr_left (f := fun v => some (vr4 v)) (g := fun v => some (vr v)) (fun v hv => by rw [(hin.2.2.1.1 v (hgr2 v hv).1).2])]
            exact hlr4) hra4 (fun j g hg => hf9 j g (by
            rcases Nat.lt_or_ge j gr.length with h9 | h9
            · exact h9
            · rw [List.getElem?_eq_none h9] at hg; cases hg) hg)
            (fun g hg => ⟨(hgm g).2 (Or.inr hg), (hin.2.2.1.1 g (hgr2 g hg).1).1⟩)
            (fun g hg hk => by
              (try dsimp only at hk)
              rw [uog_lt (hDn g (hgD g hg).1)] at hk
              rcases (hgm g).1 hg with h9 | h9
              · rw [(hgt2 g h9).2.2] at hk; cases hk
              · exact h9)
            (fun g hg hk => by
              (try dsimp only at hk)
              rw [uog_lt (hDn g (hgD g hg).1)] at hk
              obtain ⟨⟨cm, k⟩, -⟩ := hin.2.2.2.2.1 g (List.mem_append.2 ((hgm g).1 hg)) hk
              rw [(hin.2.2.1.1 g (hgD g hg).1).2]; exact ⟨_, _, _, _, _, _, _, k⟩)
            (fun g hg => by
              obtain ⟨lk, cm, k⟩ := hin.2.2.2.2.2 g (List.mem_append_right _ hg) (hgr2 g hg).2.2
              exact ⟨(hin.2.2.1.2 _).2 (Or.inr ⟨g, List.mem_append_right _ hg, rfl⟩), hsn g ((hgm g).2 (Or.inr hg)), _, _, _, k⟩)
            (Ne.symm (nJ_ne hst)) (by omega) (SizeOf.sizeOf (uap S1.2.1 t) + 1)).1 (uap S1.2.1 t) t ty M4 L4 (Nat.lt_succ_self _) rfl (by rw [hS12]; exact hww.mono hug) (fun u hu => by rw [hS12] at hu; exact uwf.lt hww u hu) (hin.start hgs hsn) htp4
          rw [hS12] at hRen
          refine lv_aload_n hx hb dX2_renewed_166 rfl (lv_at hl 2 rfl) ?_
          refine va_get (D := Z.1) (ci := 23) (v := .ref ty) (C := RX28) (T := TX28) (N := 5) hx hb hts in_X28 hown hE.1 (hM.at hkq4) 0 rfl mm_cX28 1 (by decide) (hts _ q2636) (fun _ h9 => h9) rfl dX2_renewed_167 ?_
          refine lv_aload_n hx hb dX2_renewed_170 rfl (lv_at hl 2 rfl) ?_
          refine lv_aload_n hx hb dX2_renewed_171 rfl (lv_at hl 3 rfl) ?_
          refine lv_lload_n hx hb dX2_renewed_172 rfl (lv_at hl 4 rfl) ?_
          refine mm_callSD (As := [.ref ty, .ref kq, .ref q_4, .long (nJ (st + 1))]) (rest := []) ⟨hx, hb, hml, hown, hts⟩ hE hST hA hRen (va_cwS 4 hts (lw_S q2601 q2602 q54 q2603) rfl rfl rfl (by decide +kernel) ⟨(by (try dsimp only); omega), (by (try dsimp only); omega)⟩) hM hS rfl hl.1 (Nat.le_of_ble_eq_true rfl) dX2_renewed_173 rfl ⟨(by (try dsimp only); omega), (by (try dsimp only); omega)⟩ (fun _ _ _ _ _ _ h9 => h9.elim) (fun v_28 M_29 n_31 k_32 H locs hp_30 hM hS => ?_)
          obtain ⟨a5, L5, t5, rfl, hN5, hL5, hs5, ht5, he5, -, hn5, hk5, hl5, -⟩ := hp_30
          exact mm_retaD hx hb hr (Or.inl ⟨_, rfl⟩) (Or.inr ⟨_, rfl⟩) hlk hM hS ⟨a5, L5, vr4, D4, t5, rfl, hN5.2.2.1, hN5.st hin.1.2.2 hin.1.1, hL5.atC hmd4 (by decide), hin.1.2.1.trans hL5.K, fun z h => hs5 z (hin.2.1.1 z h), hin.2.2.1.1, hDD, hkd4.mono hL5.K, ht5, he5, by (try dsimp only); omega, by (try dsimp only); omega, by (try dsimp only); omega⟩ dX2_renewed_176 (by (try dsimp only); omega) (by (try dsimp only); omega)
        · skip
          have hge : gr = [] := by
            have h9 : nI gr.length = 0 := by first | exact c_27 | exact Classical.not_not.1 c_27
            exact List.eq_nil_of_length_eq_zero ((nI_eq (a := gr.length) (b := 0) (by omega) (by omega)).1 h9)
          have hte : gt = [] := by
            cases gt with
            | nil => rfl
            | cons z zs => exact absurd rfl c_26
          have hgle : gl = [] := by
            cases gl with
            | nil => rfl
            | cons z zs => have h9 := (hgm z).1 List.mem_cons_self; rw [hte, hge] at h9; exact (h9.elim List.not_mem_nil List.not_mem_nil).elim
          refine lv_aload_n hx hb dX2_renewed_159 rfl (lv_at hl 2 rfl) ?_
          refine va_get (D := Z.1) (ci := 23) (v := .ref ty) (C := RX28) (T := TX28) (N := 5) hx hb hts in_X28 hown hE.1 (hM.at hkq4) 0 rfl mm_cX28 1 (by decide) (hts _ q2636) (fun _ h9 => h9) rfl dX2_renewed_160 ?_
          refine lv_goto (tgt := 176) hx hb dX2_renewed_163 (by decide) ?_
          exact mm_retaD hx hb hr (Or.inl ⟨_, rfl⟩) (Or.inr ⟨_, rfl⟩) hlk hM hS ⟨ty, L4, vr4, D4, t, rfl, hin.1.1, hin.1.2.2, hmd4, hin.1.2.1, hin.2.1.1, hin.2.2.1.1, hDD, hkd4, htp4, (uth_id (hC.1.1.can t) (fun g hg => by rw [hgle] at hg; exact absurd hg List.not_mem_nil)).symm, by (try dsimp only); omega, by (try dsimp only); omega, by (try dsimp only); omega⟩ dX2_renewed_176 (by (try dsimp only); omega) (by (try dsimp only); omega)
    · skip
      have hi : i < gr.length := (nI_ltI (by omega) (by omega)).1 (Int32.not_le.1 c_22)
      obtain ⟨g9, hg9⟩ : ∃ g, gr[i]? = some g := ⟨gr[i], List.getElem?_eq_getElem hi⟩
      have hgm9 := List.mem_of_getElem? hg9
      have hgl9 := (hgm g9).2 (Or.inr hgm9)
      obtain ⟨hgD9, hgs9, hgk9⟩ := hgr2 g9 hgm9
      have hgx := hin.cellR hKd hgD9 hgk9 (by rw [hS12]; exact hgs9)
      rw [(hfl g9 hgl9).2.2.1, (hfl g9 hgl9).2.2.2] at hgx
      refine lv_aload_n hx hb dX2_renewed_94 rfl (lv_at hl 3 rfl) ?_
      refine lv_iload hx hb dX2_renewed_95 (lv_at hl 0 rfl) ?_
      refine lv_aload_n hx hb dX2_renewed_97 rfl (lv_at hl 2 rfl) ?_
      refine va_get (D := Z.1) (ci := 23) (v := .ref lr) (C := RX28) (T := TX28) (N := 5) hx hb hts in_X28 hown hE.1 (hM.at hkq4) 0 rfl mm_cX28 3 (by decide) (hts _ q2640) (fun _ h9 => h9) rfl dX2_renewed_98 ?_
      refine lv_iload hx hb dX2_renewed_101 (lv_at hl 0 rfl) ?_
      refine mm_callV (As := [.int (nI i)]) (rest := [.int (nI i), .ref q_4]) ⟨hx, hb, hml, hown, hts⟩ hE hST hA (c_J2_get l Z hlr4 (i := i) (by rw [List.length_map]; omega)) (cwV 1 hts (lw_V q2567 q500 q501 q53 q502) rfl rfl rfl (by decide +kernel) ⟨(by (try dsimp only); omega), (by (try dsimp only); omega)⟩) hM hS mm_cJ2 hpq rfl hl.1 (Nat.le_of_ble_eq_true rfl) dX2_renewed_103 rfl ⟨(by (try dsimp only); omega), (by (try dsimp only); omega)⟩ (fun _ _ _ _ _ _ h9 => h9.elim) (fun v_23 M_24 H locs hp_25 hM hS => ?_)
      obtain ⟨⟨r9, hr9, rfl⟩, eM_24⟩ := hp_25
      rw [eM_24] at hM
      rw [List.getElem?_map, hg9] at hr9
      obtain rfl := (Option.some.inj hr9)
      refine va_castS hx hb hown (hts _ q2561) (hE.1.1 22 _ mm_cX27).2 (mm_recv hE hM mm_cX27 hgx) dX2_renewed_106 ?_
      refine va_get (D := Z.1) (ci := 22) (v := .int (S.2.2.2.1 g9)) (C := RX27) (T := TX27) (N := 7) hx hb hts in_X27 hown hE.1 (hM.at hgx) 0 rfl mm_cX27 5 (by decide) (hts _ q2583) (fun _ h9 => h9) rfl dX2_renewed_109 ?_
      refine mm_callS (As := [.int (S.2.2.2.1 g9)]) (rest := [.int (nI i), .ref q_4]) ⟨hx, hb, hml, hown, hts⟩ hE hST hA (c_X2_lacking l Z (x1 := S.2.2.2.1 g9)) (va_cwS 1 hts (lw_S q2568 q2569 q54 q2570) rfl rfl rfl (by decide +kernel) ⟨(by (try dsimp only); omega), (by (try dsimp only); omega)⟩) hM hS rfl hl.1 (Nat.le_of_ble_eq_true rfl) dX2_renewed_112 rfl ⟨(by (try dsimp only); omega), (by (try dsimp only); omega)⟩ (fun _ _ _ _ _ _ h9 => h9.elim) (fun v_26 M_27 H locs hp_28 hM hS => ?_)
      obtain ⟨qn, hqn, rfl, eM9⟩ := hp_28
      have hxn : mm_Ext M4 M_27 := by rw [eM9]; exact mm_Ext.U hqn
      have hqq : M_27 qn = some (mr_E 0 none 0 none none (S.2.2.2.1 g9) false) := by rw [eM9]; exact mm_U_eq
      have hkq5 := hxn.at hkq4
      have hra5 := hxn.at hra4
      have hgx5 := hxn.at hgx
      have hpq5 := hxn.at hpq
      have hneq : qn ≠ (vr g9) := fun e => by rw [e, hgx] at hqn; cases hqn
      refine mm_aastT (k := i) hx hb hE hM hS 7 22 hra5 rfl hqq mm_cX27 rfl hi (by omega) dX2_renewed_115 (fun H locs hM hS => ?_)
      have hM : mm_P Z.1 mm_cl A (mm_U M_27 q_4 (.inl (Z.2.1 7, gr.length, .inr (.inr (.inr (.inr (va_up f9 i (some qn)))))))) H := hM
      have hc_29 : (mm_U M_27 q_4 (.inl (Z.2.1 7, gr.length, .inr (.inr (.inr (.inr (va_up f9 i (some qn)))))))) q_4 = some (.inl (Z.2.1 7, gr.length, .inr (.inr (.inr (.inr (va_up f9 i (some qn))))))) := mm_U_eq
      have hc_30 : (mm_U M_27 q_4 (.inl (Z.2.1 7, gr.length, .inr (.inr (.inr (.inr (va_up f9 i (some qn)))))))) kq = some (.inr (23, [.int (nI nm), .ref ty, .ref lt, .ref lr, va_rf nx])) := (mm_U_ne (Ne.symm (mm_neA hra5 hkq5))).trans hkq5
      have hc_31 : (mm_U M_27 q_4 (.inl (Z.2.1 7, gr.length, .inr (.inr (.inr (.inr (va_up f9 i (some qn)))))))) lr = some (.inr (41, [.int mdq, .ref arr, .int (nI gr.length)])) := (mm_U_ne (Ne.symm (mm_neA hra5 hpq5))).trans hpq5
      have hc_32 : (mm_U M_27 q_4 (.inl (Z.2.1 7, gr.length, .inr (.inr (.inr (.inr (va_up f9 i (some qn)))))))) (vr g9) = some (.inr (22, [.int 0, .null, .int 0, .null, .null, .int (S.2.2.2.1 g9), .int (mm_b (S.2.2.1 g9))])) := (mm_U_ne (Ne.symm (mm_neA hra5 hgx5))).trans hgx5
      have hc_33 : (mm_U M_27 q_4 (.inl (Z.2.1 7, gr.length, .inr (.inr (.inr (.inr (va_up f9 i (some qn)))))))) qn = some (.inr (22, [.int 0, .null, .int 0, .null, .null, .int (S.2.2.2.1 g9), .int (mm_b false)])) := (mm_U_ne (Ne.symm (mm_neA hra5 hqq))).trans hqq
      obtain ⟨M_34, eM_34⟩ : ∃ z, z = mm_U M_27 q_4 (.inl (Z.2.1 7, gr.length, .inr (.inr (.inr (.inr (va_up f9 i (some qn))))))) := ⟨_, rfl⟩
      rw [← eM_34] at hM hc_30 hc_31 hc_32 hc_29 hc_33
      refine lv_aload_n hx hb dX2_renewed_116 rfl (lv_at hl 3 rfl) ?_
      refine lv_iload hx hb dX2_renewed_117 (lv_at hl 0 rfl) ?_
      refine mm_aald (k := i) hx hb hE hM 7 hc_29 rfl rfl hi (by omega) dX2_renewed_119 ?_
      rw [show va_up f9 i (some qn) i = some qn from if_pos rfl]
      have hlr6 : AL Z M_34 lr arr cpr (gr.map fun v => some (vr v)) := by
        obtain ⟨md7, f7, k1, k2, k3⟩ := hlr4.mK hxn.mK
        refine ⟨md7, f7, ?_, ?_, k3⟩
        · subst eM_34; rw [mm_U_ne (fun e => by rw [e, hra5] at k1; cases k1)]; exact k1
        · subst eM_34; rw [mm_U_ne (fun e => by obtain ⟨_, _, _, h2, -⟩ := id hlr; rw [e, nq_5] at h2; cases h2)]; exact k2
      refine lv_aload_n hx hb dX2_renewed_120 rfl (lv_at hl 2 rfl) ?_
      refine va_get (D := Z.1) (ci := 23) (v := .ref lr) (C := RX28) (T := TX28) (N := 5) hx hb hts in_X28 hown hE.1 (hM.at hc_30) 0 rfl mm_cX28 3 (by decide) (hts _ q2640) (fun _ h9 => h9) rfl dX2_renewed_121 ?_
      refine lv_iload hx hb dX2_renewed_124 (lv_at hl 0 rfl) ?_
      refine mm_callV (As := [.int (nI i)]) (rest := [.ref qn]) ⟨hx, hb, hml, hown, hts⟩ hE hST hA (c_J2_get l Z hlr6 (i := i) (by rw [List.length_map]; omega)) (cwV 1 hts (lw_V q2567 q500 q501 q53 q502) rfl rfl rfl (by decide +kernel) ⟨(by (try dsimp only); omega), (by (try dsimp only); omega)⟩) hM hS mm_cJ2 hc_31 rfl hl.1 (Nat.le_of_ble_eq_true rfl) dX2_renewed_126 rfl ⟨(by (try dsimp only); omega), (by (try dsimp only); omega)⟩ (fun _ _ _ _ _ _ h9 => h9.elim) (fun v_35 M_36 H locs hp_37 hM hS => ?_)
      obtain ⟨⟨r9, hr9, rfl⟩, eM_36⟩ := hp_37
      rw [eM_36] at hM
      rw [List.getElem?_map, hg9] at hr9
      obtain rfl := (Option.some.inj hr9)
      refine va_castS hx hb hown (hts _ q2561) (hE.1.1 22 _ mm_cX27).2 (mm_recv hE hM mm_cX27 hc_32) dX2_renewed_129 ?_
      refine va_get (D := Z.1) (ci := 22) (v := .int (mm_b (S.2.2.1 g9))) (C := RX27) (T := TX27) (N := 7) hx hb hts in_X27 hown hE.1 (hM.at hc_32) 0 rfl mm_cX27 6 (by decide) (hts _ q2584) (fun _ h9 => h9) rfl dX2_renewed_132 ?_
      refine mm_put (D := Z.1) (ci := 22) (v := .int (mm_b (S.2.2.1 g9))) (ty := .boolean) (C := RX27) (T := TX27) (N := 7) hx hb hts in_X27 tyX27 tyX27_ok nmX27 hown hE.1 hM hS hc_33 mm_cX27 6 (by decide) (hts _ q2584) (fun _ h9 => h9) rfl (by decide +kernel) (mm_b_nar _) (mm_b_fit _) (Nat.le_of_ble_eq_true rfl) dX2_renewed_135 (fun H locs hM hS => ?_)
      have hM : mm_P Z.1 mm_cl A (mm_U M_34 qn (.inr (22, [.int 0, .null, .int 0, .null, .null, .int (S.2.2.2.1 g9), .int (mm_b (S.2.2.1 g9))]))) H := hM
      have hc_38 : (mm_U M_34 qn (.inr (22, [.int 0, .null, .int 0, .null, .null, .int (S.2.2.2.1 g9), .int (mm_b (S.2.2.1 g9))]))) qn = some (.inr (22, [.int 0, .null, .int 0, .null, .null, .int (S.2.2.2.1 g9), .int (mm_b (S.2.2.1 g9))])) := mm_U_eq
      have hc_39 : (mm_U M_34 qn (.inr (22, [.int 0, .null, .int 0, .null, .null, .int (S.2.2.2.1 g9), .int (mm_b (S.2.2.1 g9))]))) kq = some (.inr (23, [.int (nI nm), .ref ty, .ref lt, .ref lr, va_rf nx])) := (mm_U_ne (mm_neC hc_30 hc_33 (by decide))).trans hc_30
      have hc_40 : (mm_U M_34 qn (.inr (22, [.int 0, .null, .int 0, .null, .null, .int (S.2.2.2.1 g9), .int (mm_b (S.2.2.1 g9))]))) lr = some (.inr (41, [.int mdq, .ref arr, .int (nI gr.length)])) := (mm_U_ne (mm_neC hc_31 hc_33 (by decide))).trans hc_31
      have hc_41 : (mm_U M_34 qn (.inr (22, [.int 0, .null, .int 0, .null, .null, .int (S.2.2.2.1 g9), .int (mm_b (S.2.2.1 g9))]))) (vr g9) = some (.inr (22, [.int 0, .null, .int 0, .null, .null, .int (S.2.2.2.1 g9), .int (mm_b (S.2.2.1 g9))])) := (mm_U_ne (Ne.symm hneq)).trans hc_32
      have hc_42 : (mm_U M_34 qn (.inr (22, [.int 0, .null, .int 0, .null, .null, .int (S.2.2.2.1 g9), .int (mm_b (S.2.2.1 g9))]))) q_4 = some (.inl (Z.2.1 7, gr.length, .inr (.inr (.inr (.inr (va_up f9 i (some qn))))))) := (mm_U_ne (mm_neA hc_29 hc_33)).trans hc_29
      obtain ⟨M_43, eM_43⟩ : ∃ z, z = mm_U M_34 qn (.inr (22, [.int 0, .null, .int 0, .null, .null, .int (S.2.2.2.1 g9), .int (mm_b (S.2.2.1 g9))])) := ⟨_, rfl⟩
      rw [← eM_43] at hM hc_39 hc_40 hc_41 hc_42 hc_38
      have hqE := hc_38
      have hraE := hc_42
      have hkE : ∀ z, z ≠ qn → z ≠ q_4 → M_43 z = M4 z := fun z h1 h2 => by subst eM_43 eM_34; rw [eM9]; simp only [mm_U_ne h1, mm_U_ne h2]
      have hng : g9 ∉ gt ++ gr.take i := fun h => by
        rcases List.mem_append.1 h with h | h
        · exact hdis g9 h hgm9
        · obtain ⟨z, hz1, hz2⟩ := List.mem_take_iff_getElem.1 h
          have h9 : gr[z]? = some g9 := by rw [List.getElem?_eq_getElem (by omega)]; exact congrArg some hz2
          have h8 := (List.getElem?_inj (by omega) hgr1).1 (h9.trans hg9.symm)
          omega
      have hin5 := hin.stepR hst hgl9 hng (fun z hz => (hgm z).2 ((List.mem_append.1 hz).imp id List.mem_of_mem_take)) hDn (by omega) (hsn g9 hgl9) hgk9 hqn hra4 nq_5 (by rw [(hfl g9 hgl9).1, (hfl g9 hgl9).2.1]; exact hqE) hkE
      have hmdE := (hkE md (fun e => by rw [e, hqn] at hmd4; cases hmd4) (fun e => by rw [e, hra4] at hmd4; cases hmd4)).trans hmd4
      obtain ⟨x_44, ex_44⟩ : ∃ z : Int32, z = (nI i) + 1 := ⟨_, rfl⟩
      refine lv_iinc (v := x_44) (lv' := [(5, .int x_44), (0, .ref md), (1, .ref kq), (2, .ref q_4), (3, .long (nJ (st + 1)))]) hx hb dX2_renewed_138 hl (k := 0) rfl (by rw [ex_44]; rfl) (by decide) rfl (fun ls hl => ?_)
      rw [show x_44 = nI (i + 1) from by rw [ex_44]; exact nI_1 _] at hl
      refine lv_goto (tgt := 87) hx hb dX2_renewed_141 (by decide) ?_
      refine ih8 (gr.length - (i + 1)) (by omega) _ _ _ _ _ _ ⟨i + 1, _, _, _, _, rfl, hi, lv_sub hl [0, 1, 2, 3, 4] rfl, by rw [take_1 hg9, ← List.append_assoc]; exact hin5, hmdE, hraE, (fun j9 g h1 h2 => ?_), by (try dsimp only); omega, by (try dsimp only); omega⟩ hM hS
      by_cases e : j9 = i
      · subst e
        rw [hg9] at h2; cases h2
        rw [uvr_eq]; exact if_pos rfl
      · rw [show va_up f9 i (some qn) j9 = f9 j9 from if_neg e, hf9 j9 g (by omega) h2, uvr_ne (idx_ne ((hgm g).2 (Or.inr (List.mem_of_getElem? h2))) (fun e9 => ?_) hgl9)]
        subst e9
        exact e ((List.getElem?_inj (by omega) hgr1).1 (h2.trans hg9.symm))
  · skip
    have hj : j < gt.length := (nI_ltI (by omega) (by omega)).1 (Int32.not_le.1 c_21)
    obtain ⟨g9, hg9⟩ : ∃ g, gt[j]? = some g := ⟨gt[j], List.getElem?_eq_getElem hj⟩
    have hgm9 := List.mem_of_getElem? hg9
    have hgl9 := (hgm g9).2 (Or.inl hgm9)
    obtain ⟨hgD9, hgs9, hgk9⟩ := hgt2 g9 hgm9
    obtain ⟨sn8, cp8, hgx⟩ := hin.cellT hKd hgD9 hgk9 (by rw [hS12]; exact hgs9)
    rw [(hfl g9 hgl9).2.2.1] at hgx
    refine lv_aload_n hx hb dX2_renewed_31 rfl (lv_at hl 2 rfl) ?_
    refine va_get (D := Z.1) (ci := 23) (v := .ref lt) (C := RX28) (T := TX28) (N := 5) hx hb hts in_X28 hown hE.1 (hM.at hkq3) 0 rfl mm_cX28 2 (by decide) (hts _ q2638) (fun _ h9 => h9) rfl dX2_renewed_32 ?_
    refine lv_iload hx hb dX2_renewed_35 (lv_at hl 0 rfl) ?_
    refine mm_callV (As := [.int (nI j)]) (rest := []) ⟨hx, hb, hml, hown, hts⟩ hE hST hA (c_J2_get l Z hlt3 (i := j) (by rw [List.length_map]; omega)) (cwV 1 hts (lw_V q2567 q500 q501 q53 q502) rfl rfl rfl (by decide +kernel) ⟨(by (try dsimp only); omega), (by (try dsimp only); omega)⟩) hM hS mm_cJ2 hpt rfl hl.1 (Nat.le_of_ble_eq_true rfl) dX2_renewed_37 rfl ⟨(by (try dsimp only); omega), (by (try dsimp only); omega)⟩ (fun _ _ _ _ _ _ h9 => h9.elim) (fun v_22 M_23 H locs hp_24 hM hS => ?_)
    obtain ⟨⟨r9, hr9, rfl⟩, eM_23⟩ := hp_24
    rw [eM_23] at hM
    rw [List.getElem?_map, hg9] at hr9
    obtain rfl := (Option.some.inj hr9)
    refine va_castS hx hb hown (hts _ q2497) (hE.1.1 20 _ mm_cX25).2 (mm_recv hE hM mm_cX25 hgx) dX2_renewed_40 ?_
    refine lv_astore hx hb dX2_renewed_43 hl (by decide) rfl (fun ls hl => ?_)
    replace hl : lv_has ls 8 [(6, .ref (vr g9)), (5, .int (nI j)), (0, .ref md), (1, .ref kq), (2, .ref q_4), (3, .long (nJ (st + 1)))] := hl
    refine mm_new (D := Z.1) (ci := 20) (fs := mm_f0X25) (C := RX25) (T := TX25) (N := 8) hx hb hts in_X25 tyX25 tyX25_ok hown (hts _ q2497) (hts _ q2498) (hts _ q98) hE.1 hM hS hA mm_cX25 mm_dfX25 (by (try dsimp only); omega) (by (try dsimp only); omega) dX2_renewed_45 (fun q_26 H nq_25 hM hS => ?_)
    have hM : mm_P Z.1 mm_cl A (mm_U M3 q_26 (.inr (20, [.int 0, .null, .null, .null, .null, .int 0, .long 0, .null]))) H := hM
    have ne_27 : kq ≠ q_26 := (mm_neN hkq3 nq_25)
    have ne_28 : lt ≠ q_26 := (mm_neN hpt nq_25)
    have ne_29 : (vr g9) ≠ q_26 := (mm_neN hgx nq_25)
    have hc_30 : (mm_U M3 q_26 (.inr (20, [.int 0, .null, .null, .null, .null, .int 0, .long 0, .null]))) q_26 = some (.inr (20, [.int 0, .null, .null, .null, .null, .int 0, .long 0, .null])) := mm_U_eq
    have hc_31 : (mm_U M3 q_26 (.inr (20, [.int 0, .null, .null, .null, .null, .int 0, .long 0, .null]))) kq = some (.inr (23, [.int (nI nm), .ref ty, .ref lt, .ref lr, va_rf nx])) := (mm_U_ne ne_27).trans hkq3
    have hc_32 : (mm_U M3 q_26 (.inr (20, [.int 0, .null, .null, .null, .null, .int 0, .long 0, .null]))) lt = some (.inr (41, [.int mdp, .ref art, .int (nI gt.length)])) := (mm_U_ne ne_28).trans hpt
    have hc_33 : (mm_U M3 q_26 (.inr (20, [.int 0, .null, .null, .null, .null, .int 0, .long 0, .null]))) (vr g9) = some (.inr (20, [.int 0, .null, .null, .null, .null, .int (mm_b (S.2.2.1 g9)), .long sn8, va_rf cp8])) := (mm_U_ne ne_29).trans hgx
    obtain ⟨M_34, eM_34⟩ : ∃ z, z = mm_U M3 q_26 (.inr (20, [.int 0, .null, .null, .null, .null, .int 0, .long 0, .null])) := ⟨_, rfl⟩
    rw [← eM_34] at hM hc_31 hc_32 hc_33 hc_30
    refine lv_dup hx hb dX2_renewed_48 rfl ?_
    refine lv_iconst (v := 0) hx hb dX2_renewed_49 (by decide) ?_
    refine mm_callI (As := [.int 0]) (rest := [.ref q_26]) ⟨hx, hb, hml, hown, hts⟩ hE hST hA (c_X25_init l Z (M := M_34) (h0 := q_26) (x1 := 0) hc_30) (cwI (maxL := 2) 1 hts (lw_meth q2501) rfl rfl rfl (hts _ q98) (hts _ q2499) (hts _ q2500) rfl (by decide +kernel) ⟨(by (try dsimp only); omega), (by (try dsimp only); omega)⟩) hM hS rfl hl.1 (Nat.le_of_ble_eq_true rfl) dX2_renewed_50 rfl ⟨(by (try dsimp only); omega), (by (try dsimp only); omega)⟩ (fun _ _ _ _ _ _ h9 => h9.elim) (fun v_35 M_36 H locs hp_37 hM hS => ?_)
    obtain ⟨rfl, eM_36⟩ := hp_37
    rw [eM_36] at hM
    replace hM : mm_P Z.1 mm_cl A (mm_U M_34 q_26 (.inr (20, [.int 0, .null, .null, .null, .null, .int 0, .long 0, .null]))) H := hM
    have hc_38 : (mm_U M_34 q_26 (.inr (20, [.int 0, .null, .null, .null, .null, .int 0, .long 0, .null]))) q_26 = some (.inr (20, [.int 0, .null, .null, .null, .null, .int 0, .long 0, .null])) := mm_U_eq
    have hc_39 : (mm_U M_34 q_26 (.inr (20, [.int 0, .null, .null, .null, .null, .int 0, .long 0, .null]))) kq = some (.inr (23, [.int (nI nm), .ref ty, .ref lt, .ref lr, va_rf nx])) := (mm_U_ne ne_27).trans hc_31
    have hc_40 : (mm_U M_34 q_26 (.inr (20, [.int 0, .null, .null, .null, .null, .int 0, .long 0, .null]))) lt = some (.inr (41, [.int mdp, .ref art, .int (nI gt.length)])) := (mm_U_ne ne_28).trans hc_32
    have hc_41 : (mm_U M_34 q_26 (.inr (20, [.int 0, .null, .null, .null, .null, .int 0, .long 0, .null]))) (vr g9) = some (.inr (20, [.int 0, .null, .null, .null, .null, .int (mm_b (S.2.2.1 g9)), .long sn8, va_rf cp8])) := (mm_U_ne ne_29).trans hc_33
    obtain ⟨M_42, eM_42⟩ : ∃ z, z = mm_U M_34 q_26 (.inr (20, [.int 0, .null, .null, .null, .null, .int 0, .long 0, .null])) := ⟨_, rfl⟩
    rw [← eM_42] at hM hc_39 hc_40 hc_41 hc_38
    refine lv_astore hx hb dX2_renewed_53 hl (by decide) rfl (fun ls hl => ?_)
    replace hl : lv_has ls 8 [(7, .ref q_26), (6, .ref (vr g9)), (5, .int (nI j)), (0, .ref md), (1, .ref kq), (2, .ref q_4), (3, .long (nJ (st + 1)))] := hl
    refine lv_aload hx hb dX2_renewed_55 (lv_at hl 0 rfl) ?_
    refine lv_aload hx hb dX2_renewed_57 (lv_at hl 1 rfl) ?_
    refine va_get (D := Z.1) (ci := 20) (v := .int (mm_b (S.2.2.1 g9))) (C := RX25) (T := TX25) (N := 8) hx hb hts in_X25 hown hE.1 (hM.at hc_41) 0 rfl mm_cX25 5 (by decide) (hts _ q2510) (fun _ h9 => h9) rfl dX2_renewed_59 ?_
    refine mm_put (D := Z.1) (ci := 20) (v := .int (mm_b (S.2.2.1 g9))) (ty := .boolean) (C := RX25) (T := TX25) (N := 8) hx hb hts in_X25 tyX25 tyX25_ok nmX25 hown hE.1 hM hS hc_38 mm_cX25 5 (by decide) (hts _ q2510) (fun _ h9 => h9) rfl (by decide +kernel) (mm_b_nar _) (mm_b_fit _) (Nat.le_of_ble_eq_true rfl) dX2_renewed_62 (fun H locs hM hS => ?_)
    have hM : mm_P Z.1 mm_cl A (mm_U M_42 q_26 (.inr (20, [.int 0, .null, .null, .null, .null, .int (mm_b (S.2.2.1 g9)), .long 0, .null]))) H := hM
    have hc_43 : (mm_U M_42 q_26 (.inr (20, [.int 0, .null, .null, .null, .null, .int (mm_b (S.2.2.1 g9)), .long 0, .null]))) q_26 = some (.inr (20, [.int 0, .null, .null, .null, .null, .int (mm_b (S.2.2.1 g9)), .long 0, .null])) := mm_U_eq
    have hc_44 : (mm_U M_42 q_26 (.inr (20, [.int 0, .null, .null, .null, .null, .int (mm_b (S.2.2.1 g9)), .long 0, .null]))) kq = some (.inr (23, [.int (nI nm), .ref ty, .ref lt, .ref lr, va_rf nx])) := (mm_U_ne ne_27).trans hc_39
    have hc_45 : (mm_U M_42 q_26 (.inr (20, [.int 0, .null, .null, .null, .null, .int (mm_b (S.2.2.1 g9)), .long 0, .null]))) lt = some (.inr (41, [.int mdp, .ref art, .int (nI gt.length)])) := (mm_U_ne ne_28).trans hc_40
    have hc_46 : (mm_U M_42 q_26 (.inr (20, [.int 0, .null, .null, .null, .null, .int (mm_b (S.2.2.1 g9)), .long 0, .null]))) (vr g9) = some (.inr (20, [.int 0, .null, .null, .null, .null, .int (mm_b (S.2.2.1 g9)), .long sn8, va_rf cp8])) := (mm_U_ne ne_29).trans hc_41
    obtain ⟨M_47, eM_47⟩ : ∃ z, z = mm_U M_42 q_26 (.inr (20, [.int 0, .null, .null, .null, .null, .int (mm_b (S.2.2.1 g9)), .long 0, .null])) := ⟨_, rfl⟩
    rw [← eM_47] at hM hc_44 hc_45 hc_46 hc_43
    refine lv_aload hx hb dX2_renewed_65 (lv_at hl 1 rfl) ?_
    refine lv_lload_n hx hb dX2_renewed_67 rfl (lv_at hl 6 rfl) ?_
    refine mm_put (D := Z.1) (ci := 20) (v := .long (nJ (st + 1))) (ty := .long) (C := RX25) (T := TX25) (N := 8) hx hb hts in_X25 tyX25 tyX25_ok nmX25 hown hE.1 hM hS hc_46 mm_cX25 6 (by decide) (hts _ q2511) (fun _ h9 => h9) rfl (by decide +kernel) rfl rfl (Nat.le_of_ble_eq_true rfl) dX2_renewed_68 (fun H locs hM hS => ?_)
    have hM : mm_P Z.1 mm_cl A (mm_U M_47 (vr g9) (.inr (20, [.int 0, .null, .null, .null, .null, .int (mm_b (S.2.2.1 g9)), .long (nJ (st + 1)), va_rf cp8]))) H := hM
    have hc_48 : (mm_U M_47 (vr g9) (.inr (20, [.int 0, .null, .null, .null, .null, .int (mm_b (S.2.2.1 g9)), .long (nJ (st + 1)), va_rf cp8]))) (vr g9) = some (.inr (20, [.int 0, .null, .null, .null, .null, .int (mm_b (S.2.2.1 g9)), .long (nJ (st + 1)), va_rf cp8])) := mm_U_eq
    have hc_49 : (mm_U M_47 (vr g9) (.inr (20, [.int 0, .null, .null, .null, .null, .int (mm_b (S.2.2.1 g9)), .long (nJ (st + 1)), va_rf cp8]))) kq = some (.inr (23, [.int (nI nm), .ref ty, .ref lt, .ref lr, va_rf nx])) := (mm_U_ne (mm_neC hc_44 hc_46 (by decide))).trans hc_44
    have hc_50 : (mm_U M_47 (vr g9) (.inr (20, [.int 0, .null, .null, .null, .null, .int (mm_b (S.2.2.1 g9)), .long (nJ (st + 1)), va_rf cp8]))) lt = some (.inr (41, [.int mdp, .ref art, .int (nI gt.length)])) := (mm_U_ne (mm_neC hc_45 hc_46 (by decide))).trans hc_45
    have hc_51 : (mm_U M_47 (vr g9) (.inr (20, [.int 0, .null, .null, .null, .null, .int (mm_b (S.2.2.1 g9)), .long (nJ (st + 1)), va_rf cp8]))) q_26 = some (.inr (20, [.int 0, .null, .null, .null, .null, .int (mm_b (S.2.2.1 g9)), .long 0, .null])) := (mm_U_ne (Ne.symm ne_29)).trans hc_43
    obtain ⟨M_52, eM_52⟩ : ∃ z, z = mm_U M_47 (vr g9) (.inr (20, [.int 0, .null, .null, .null, .null, .int (mm_b (S.2.2.1 g9)), .long (nJ (st + 1)), va_rf cp8])) := ⟨_, rfl⟩
    rw [← eM_52] at hM hc_49 hc_50 hc_48 hc_51
    refine lv_aload hx hb dX2_renewed_71 (lv_at hl 1 rfl) ?_
    refine lv_aload hx hb dX2_renewed_73 (lv_at hl 0 rfl) ?_
    refine mm_put (D := Z.1) (ci := 20) (v := .ref q_26) (ty := .object "RowenTongueModel$Type") (C := RX25) (T := TX25) (N := 8) hx hb hts in_X25 tyX25 tyX25_ok nmX25 hown hE.1 hM hS hc_48 mm_cX25 7 (by decide) (hts _ q2512) (fun _ h9 => h9) rfl (by decide +kernel) rfl rfl (Nat.le_of_ble_eq_true rfl) dX2_renewed_75 (fun H locs hM hS => ?_)
    have hM : mm_P Z.1 mm_cl A (mm_U M_52 (vr g9) (.inr (20, [.int 0, .null, .null, .null, .null, .int (mm_b (S.2.2.1 g9)), .long (nJ (st + 1)), .ref q_26]))) H := hM
    have hc_53 : (mm_U M_52 (vr g9) (.inr (20, [.int 0, .null, .null, .null, .null, .int (mm_b (S.2.2.1 g9)), .long (nJ (st + 1)), .ref q_26]))) (vr g9) = some (.inr (20, [.int 0, .null, .null, .null, .null, .int (mm_b (S.2.2.1 g9)), .long (nJ (st + 1)), .ref q_26])) := mm_U_eq
    have hc_54 : (mm_U M_52 (vr g9) (.inr (20, [.int 0, .null, .null, .null, .null, .int (mm_b (S.2.2.1 g9)), .long (nJ (st + 1)), .ref q_26]))) kq = some (.inr (23, [.int (nI nm), .ref ty, .ref lt, .ref lr, va_rf nx])) := (mm_U_ne (mm_neC hc_49 hc_48 (by decide))).trans hc_49
    have hc_55 : (mm_U M_52 (vr g9) (.inr (20, [.int 0, .null, .null, .null, .null, .int (mm_b (S.2.2.1 g9)), .long (nJ (st + 1)), .ref q_26]))) lt = some (.inr (41, [.int mdp, .ref art, .int (nI gt.length)])) := (mm_U_ne (mm_neC hc_50 hc_48 (by decide))).trans hc_50
    have hc_56 : (mm_U M_52 (vr g9) (.inr (20, [.int 0, .null, .null, .null, .null, .int (mm_b (S.2.2.1 g9)), .long (nJ (st + 1)), .ref q_26]))) q_26 = some (.inr (20, [.int 0, .null, .null, .null, .null, .int (mm_b (S.2.2.1 g9)), .long 0, .null])) := (mm_U_ne (Ne.symm ne_29)).trans hc_51
    obtain ⟨M_57, eM_57⟩ : ∃ z, z = mm_U M_52 (vr g9) (.inr (20, [.int 0, .null, .null, .null, .null, .int (mm_b (S.2.2.1 g9)), .long (nJ (st + 1)), .ref q_26])) := ⟨_, rfl⟩
    rw [← eM_57] at hM hc_54 hc_55 hc_53 hc_56
    have hqE := hc_56
    have hgE := hc_53
    have hkE : ∀ z, z ≠ q_26 → z ≠ (vr g9) → M_57 z = M3 z := fun z h1 h2 => by subst eM_57 eM_52 eM_47 eM_42 eM_34; simp only [mm_U_ne h1, mm_U_ne h2]
    have hng : g9 ∉ gt.take j := fun h => by
      obtain ⟨z, hz1, hz2⟩ := List.mem_take_iff_getElem.1 h
      have h9 : gt[z]? = some g9 := by rw [List.getElem?_eq_getElem (by omega)]; exact congrArg some hz2
      have h8 := (List.getElem?_inj (by omega) hgt1).1 (h9.trans hg9.symm)
      omega
    have hin5 := hin.stepT hst hgl9 hng (fun z hz => (hgm z).2 (Or.inl (List.mem_of_mem_take hz))) hDn (by omega) (hsn g9 hgl9) hgk9 hgD9 hC.1.2.2.1 (fun z hz => (hgt2 z (List.mem_of_mem_take hz)).1) nq_25 hgx (by rw [(hfl g9 hgl9).1]; exact hqE) hgE hkE
    have hmdE := (hkE md (fun e => by rw [e, nq_25] at hmd3; cases hmd3) (mm_neC hmd3 hgx (by decide))).trans hmd3
    have hraE := (hkE q_4 (fun e => by rw [e, nq_25] at hra3; cases hra3) (mm_neA hra3 hgx)).trans hra3
    obtain ⟨x_58, ex_58⟩ : ∃ z : Int32, z = (nI j) + 1 := ⟨_, rfl⟩
    refine lv_iinc (v := x_58) (lv' := [(5, .int x_58), (7, .ref q_26), (6, .ref (vr g9)), (0, .ref md), (1, .ref kq), (2, .ref q_4), (3, .long (nJ (st + 1)))]) hx hb dX2_renewed_78 hl (k := 2) rfl (by rw [ex_58]; rfl) (by decide) rfl (fun ls hl => ?_)
    rw [show x_58 = nI (j + 1) from by rw [ex_58]; exact nI_1 _] at hl
    refine lv_goto (tgt := 19) hx hb dX2_renewed_81 (by decide) ?_
    refine ih (gt.length - (j + 1)) (by omega) _ _ _ _ _ _ ⟨j + 1, _, _, _, rfl, hj, lv_sub hl [0, 3, 4, 5, 6] rfl, by rw [take_1 hg9]; exact hin5, hmdE, hraE, by (try dsimp only); omega, by (try dsimp only); omega⟩ hM hS
