/-! ===== the model: a row made of types by labels ===== -/
set_option maxRecDepth 100000
theorem and_1 (x : Int32) : x &&& 1 = 0 ∨ x &&& 1 = 1 := by
  have h : (x &&& 1).toBitVec = BitVec.setWidth 32 (BitVec.ofBool (x.toBitVec.getLsbD 0)) := BitVec.and_one_eq_setWidth_ofBool_getLsbD
  cases hb : x.toBitVec.getLsbD 0 with
  | false => left; apply Int32.toBitVec_inj.1; rw [h, hb]; rfl
  | true => right; apply Int32.toBitVec_inj.1; rw [h, hb]; rfl
theorem uhs_f {x : Int32} {l : Nat} (h : (x >>> (nI l &&& 31)) &&& 1 ≠ 1) : uhs x l = false := by
  unfold uhs
  rcases and_1 (x >>> (nI l &&& 31)) with h1 | h1
  · rw [h1]; decide
  · exact absurd h1 h
theorem uhs_t {x : Int32} {l : Nat} (h : (x >>> (nI l &&& 31)) &&& 1 = 1) : uhs x l = true := by
  unfold uhs
  rw [h]; decide
/-- as mXR, the types as they lie there -/
def mXG (M : mm_M) (L : List Nat) (vr : Nat → Nat) (D : Nat → Bool) (g : Nat → Option ev) (f : Nat → Option Nat) : Prop := ∀ l, l < 10 → (g l = none ∧ f l = none) ∨ ∃ x ad, g l = some x ∧ f l = some ad ∧ mtp M L vr D x false ad
theorem mXR.G {M : mm_M} {L : List Nat} {vr : Nat → Nat} {D : Nat → Bool} {S : ts} {g : Nat → Option ev} {f : Nat → Option Nat} (h : mXR M L vr D S g f) : ∃ g', mXG M L vr D g' f ∧ ∀ l, l < 10 → g l = (g' l).map (uap S.2.1) := by
  have h1 : ∀ l : Nat, ∃ o : Option ev, l < 10 → ((o = none ∧ f l = none) ∨ ∃ x ad, o = some x ∧ f l = some ad ∧ mtp M L vr D x false ad) ∧ g l = o.map (uap S.2.1) := by
    intro l
    by_cases hl : l < 10
    · rcases h l hl with ⟨h2, h3⟩ | ⟨x, ad, h2, h3, h4⟩
      · exact ⟨none, fun _ => ⟨Or.inl ⟨rfl, h3⟩, h2⟩⟩
      · exact ⟨some x, fun _ => ⟨Or.inr ⟨x, ad, rfl, h3, h4⟩, h2⟩⟩
    · exact ⟨none, fun h9 => absurd h9 hl⟩
  exact ⟨fun l => (h1 l).choose, fun l hl => ((h1 l).choose_spec hl).1, fun l hl => ((h1 l).choose_spec hl).2⟩
theorem mXG.mono {M M' : mm_M} {L L' : List Nat} {vr vr' : Nat → Nat} {D D' : Nat → Bool} {g : Nat → Option ev} {f : Nat → Option Nat} (h : mXG M L vr D g f) (hK : mK M M') (hL : ∀ a ∈ L, a ∈ L') (hv : ∀ v, D v = true → D' v = true ∧ vr' v = vr v) : mXG M' L' vr' D' g f := fun l hl => by
  rcases h l hl with h1 | ⟨x, ad, h1, h2, h3⟩
  · exact Or.inl h1
  · exact Or.inr ⟨x, ad, h1, h2, mtp.mono hK hL hv _ _ _ h3⟩
theorem mXG.K {M M' : mm_M} {L : List Nat} {vr : Nat → Nat} {D : Nat → Bool} {g : Nat → Option ev} {f : Nat → Option Nat} (h : mXG M L vr D g f) (hK : mK M M') : mXG M' L vr D g f := h.mono hK (fun _ h => h) (fun _ h => ⟨h, rfl⟩)
theorem mtp_row {M : mm_M} {L : List Nat} {vr : Nat → Nat} {D : Nat → Bool} {x r : ev} {k ty rs a : Nat} (hk : k < 10) (h : M a = some (mr_E 2 none (nI k) (some ty) (some rs) 0 false)) (hx : mtp M L vr D x false ty) (hr : mtp M L vr D r true rs) : mtp M L vr D (.add (.pow x k) r) true a := by unfold mtp; exact ⟨ty, rs, hk, h, hx, hr⟩
theorem usome_oc {v : Nat} {s : Nat → ev} {f : Nat → Option ev} {x : Int32} : ∀ (k : Nat) (e : ev), uoc v (uap s (usome f x e k)) = true ↔ uoc v (uap s e) = true ∨ ∃ l t, l < k ∧ uhs x l = true ∧ f l = some t ∧ uoc v (uap s t) = true := by
  intro k
  induction k with
  | zero => intro e; exact ⟨Or.inl, fun h => h.elim id (fun ⟨l, t, h1, _⟩ => absurd h1 (Nat.not_lt_zero _))⟩
  | succ k ih =>
    intro e
    unfold usome
    cases hx : uhs x k with
    | false =>
      rw [ih e]
      refine ⟨fun h => h.imp id (fun ⟨l, t, h1, h2⟩ => ⟨l, t, by omega, h2⟩), fun h => h.imp id (fun ⟨l, t, h1, h2, h3⟩ => ⟨l, t, ?_, h2, h3⟩)⟩
      have : l ≠ k := fun e9 => by rw [e9, hx] at h2; cases h2
      omega
    | true =>
      cases hf : f k with
      | none =>
        dsimp only
        rw [ih e]
        refine ⟨fun h => h.imp id (fun ⟨l, t, h1, h2⟩ => ⟨l, t, by omega, h2⟩), fun h => h.imp id (fun ⟨l, t, h1, h2, h3, h4⟩ => ⟨l, t, ?_, h2, h3, h4⟩)⟩
        have : l ≠ k := fun e9 => by rw [e9, hf] at h3; cases h3
        omega
      | some y =>
        dsimp only
        rw [ih]
        have e1 : uoc v (uap s (.add (.pow y k) e)) = (uoc v (uap s y) || uoc v (uap s e)) := uins_oc _
        rw [e1, Bool.or_eq_true]
        constructor
        · rintro ((h | h) | ⟨l, t, h1, h2⟩)
          · exact Or.inr ⟨k, y, Nat.lt_succ_self _, hx, hf, h⟩
          · exact Or.inl h
          · exact Or.inr ⟨l, t, by omega, h2⟩
        · rintro (h | ⟨l, t, h1, h2, h3, h4⟩)
          · exact Or.inl (Or.inr h)
          · by_cases e9 : l = k
            · subst e9; rw [hf] at h3; cases h3; exact Or.inl (Or.inl h4)
            · exact Or.inr ⟨l, t, by omega, h2, h3, h4⟩
theorem usome_hf {s : Nat → ev} {f : Nat → Option ev} {x : Int32} : ∀ (k : Nat) (e : ev), uhf (uap s (usome f x e k)) = true ↔ uhf (uap s e) = true ∨ ∃ l t, l < k ∧ uhs x l = true ∧ f l = some t ∧ uhf (uap s t) = true := by
  intro k
  induction k with
  | zero => intro e; exact ⟨Or.inl, fun h => h.elim id (fun ⟨l, t, h1, _⟩ => absurd h1 (Nat.not_lt_zero _))⟩
  | succ k ih =>
    intro e
    unfold usome
    cases hx : uhs x k with
    | false =>
      rw [ih e]
      refine ⟨fun h => h.imp id (fun ⟨l, t, h1, h2⟩ => ⟨l, t, by omega, h2⟩), fun h => h.imp id (fun ⟨l, t, h1, h2, h3⟩ => ⟨l, t, ?_, h2, h3⟩)⟩
      have : l ≠ k := fun e9 => by rw [e9, hx] at h2; cases h2
      omega
    | true =>
      cases hf : f k with
      | none =>
        dsimp only
        rw [ih e]
        refine ⟨fun h => h.imp id (fun ⟨l, t, h1, h2⟩ => ⟨l, t, by omega, h2⟩), fun h => h.imp id (fun ⟨l, t, h1, h2, h3, h4⟩ => ⟨l, t, ?_, h2, h3, h4⟩)⟩
        have : l ≠ k := fun e9 => by rw [e9, hf] at h3; cases h3
        omega
      | some y =>
        dsimp only
        rw [ih]
        have e1 : uhf (uap s (.add (.pow y k) e)) = (uhf (uap s y) || uhf (uap s e)) := uins_hf _
        rw [e1, Bool.or_eq_true]
        constructor
        · rintro ((h | h) | ⟨l, t, h1, h2⟩)
          · exact Or.inr ⟨k, y, Nat.lt_succ_self _, hx, hf, h⟩
          · exact Or.inl h
          · exact Or.inr ⟨l, t, by omega, h2⟩
        · rintro (h | ⟨l, t, h1, h2, h3, h4⟩)
          · exact Or.inl (Or.inr h)
          · by_cases e9 : l = k
            · subst e9; rw [hf] at h3; cases h3; exact Or.inl (Or.inl h4)
            · exact Or.inr ⟨l, t, by omega, h2, h3, h4⟩

set_option maxHeartbeats 4000000 in
set_option maxRecDepth 100000 in
theorem d_X2_rowOf (l : Launch) (Z : mm_G) {M : mm_M} {L : List Nat} {vr : Nat → Nat} {D : Nat → Bool} {q rb : Nat} {st9 : Int32} {g : Nat → Option ev} {f : Nat → Option Nat} {er : ev} (hqA : M q = some (ty_A Z f)) (hX : mXG M L vr D g f) (hset : ∀ l, l < 10 → uhs st9 l = true → g l ≠ none) (htp : mtp M L vr D er true rb) (hrb : mnext M rb = none) : mm_D l Z yX2_rowOf (ws_ yX2_rowOf cX2_rowOf 5 (some (.object "RowenTongueModel$Row"))) { frames := 3, cells := 10, slots := 70, locals := 60 } [.ref q, .int st9, .ref rb] M (fun v9 M' n9 k9 => ∃ rr, v9 = some (.ref rr) ∧ n9 ≤ 10 ∧ k9 ≤ 70 ∧ mm_Ext M M' ∧ mtp M' L vr D (usome g st9 er 10) true rr ∧ mnext M' rr = none) mm_nx := by
  refine mm_ofWD (cc := cX2_rowOf) (maxL := 5) (ret := (some (.object "RowenTongueModel$Row"))) (by decide) rfl (Nat.le_of_ble_eq_true rfl) ?_
  intro p e s m below meth c A ls hx hb hr hlk hml hown hmn hts htab hE hST hA hM hS hl
  replace hl : lv_has ls 5 [(0, .ref q), (1, .int st9), (2, .ref rb)] := hl
  refine lv_aload_n hx hb dX2_rowOf_0 rfl (lv_at hl 2 rfl) ?_
  refine lv_astore_n hx hb dX2_rowOf_1 rfl hl (by decide) rfl (fun ls hl => ?_)
  replace hl : lv_has ls 5 [(3, .ref rb), (0, .ref q), (1, .int st9), (2, .ref rb)] := hl
  refine lv_bipush (v := 9) hx hb dX2_rowOf_2 (by decide) ?_
  refine lv_istore hx hb dX2_rowOf_4 hl (by decide) rfl (fun ls hl => ?_)
  replace hl : lv_has ls 5 [(4, .int 9), (3, .ref rb), (0, .ref q), (1, .int st9), (2, .ref rb)] := hl
  refine mm_loopW (fun k M' ls cells slots => ∃ (rr : Nat) (e2 : ev), k ≤ 10 ∧ lv_has ls 5 [(4, .int (nI k + (-1))), (3, .ref rr), (0, .ref q), (1, .int st9)] ∧ mm_Ext M M' ∧ mtp M' L vr D e2 true rr ∧ usome g st9 e2 k = usome g st9 er 10 ∧ mnext M' rr = none ∧ cells ≤ 10 - k ∧ slots ≤ 7 * (10 - k)) (fun k M1 ls H locs cells slots ih hI hM hS => ?_) (k := 10) ⟨rb, er, Nat.le_refl _, by rw [show (nI 10 + (-1) : Int32) = 9 from by decide]; exact lv_sub hl [0, 1, 2, 3] rfl, mm_Ext.rf _, htp, rfl, hrb, by omega, by omega⟩ hM hS
  obtain ⟨rr, e2, hk9, hl, hex, ht2, hus, hur, hc9, hs9⟩ := hI
  cases k with
  | zero =>
    rw [show (nI 0 + (-1) : Int32) = -1 from by decide] at hl
    refine lv_iload hx hb dX2_rowOf_6 (lv_at hl 0 rfl) ?_
    refine lv_if_lt (tgt := 42) hx hb dX2_rowOf_8 (by decide) (fun _ => ?_) (fun h9 => absurd (by decide) h9)
    refine lv_aload_n hx hb dX2_rowOf_42 rfl (lv_at hl 1 rfl) ?_
    exact mm_retaD hx hb hr (Or.inl ⟨_, rfl⟩) (Or.inr ⟨_, rfl⟩) hlk hM hS ⟨rr, rfl, by (try dsimp only); omega, by (try dsimp only); omega, hex, by rw [← hus]; exact ht2, hur⟩ dX2_rowOf_43 (by (try dsimp only); omega) (by (try dsimp only); omega)
  | succ k =>
    rw [nI_dec] at hl
    have hqA1 := hex.at hqA
    refine lv_iload hx hb dX2_rowOf_6 (lv_at hl 0 rfl) ?_
    refine lv_if_lt (tgt := 42) hx hb dX2_rowOf_8 (by decide) (fun h9 => absurd h9 (nI_pos (by omega))) (fun _ => ?_)
    refine lv_iload_n hx hb dX2_rowOf_11 rfl (lv_at hl 3 rfl) ?_
    refine lv_iload hx hb dX2_rowOf_12 (lv_at hl 0 rfl) ?_
    refine lv_ishr hx hb dX2_rowOf_14 ?_
    refine lv_iconst (v := 1) hx hb dX2_rowOf_15 (by decide) ?_
    refine lv_iand hx hb dX2_rowOf_16 ?_
    refine lv_iconst (v := 1) hx hb dX2_rowOf_17 (by decide) ?_
    refine lv_icmp_ne (tgt := 34) hx hb dX2_rowOf_18 (by decide) (fun c_1 => ?_) (fun c_1 => ?_)
    · skip
      have hu9 : uhs st9 k = false := uhs_f c_1
      refine lv_aload_n hx hb dX2_rowOf_34 rfl (lv_at hl 1 rfl) ?_
      refine lv_astore_n hx hb dX2_rowOf_35 rfl hl (by decide) rfl (fun ls hl => ?_)
      replace hl : lv_has ls 5 [(3, .ref rr), (4, .int (nI k)), (0, .ref q), (1, .int st9)] := hl
      obtain ⟨x_2, ex_2⟩ : ∃ z : Int32, z = (nI k) + (-1) := ⟨_, rfl⟩
      refine lv_iinc (v := x_2) (lv' := [(4, .int x_2), (3, .ref rr), (0, .ref q), (1, .int st9)]) hx hb dX2_rowOf_36 hl (k := 1) rfl (by rw [ex_2]; rfl) (by decide) rfl (fun ls hl => ?_)
      rw [ex_2] at hl
      refine lv_goto (tgt := 6) hx hb dX2_rowOf_39 (by decide) ?_
      refine ih k (by omega) _ _ _ _ _ _ ⟨rr, e2, by omega, lv_sub hl [0, 1, 2, 3] rfl, hex, ht2, by rw [← hus]; simp only [usome, hu9], hur, by (try dsimp only); omega, by (try dsimp only); omega⟩ hM hS
    · skip
      have hu9 : uhs st9 k = true := uhs_t (by first | exact c_1 | exact Classical.not_not.1 c_1)
      rcases hX k (by omega) with ⟨h8, -⟩ | ⟨x1, ad, hg, hf, hx1⟩
      · exact absurd h8 (hset k (by omega) hu9)
      refine lv_iload hx hb dX2_rowOf_21 (lv_at hl 0 rfl) ?_
      refine lv_aload_n hx hb dX2_rowOf_23 rfl (lv_at hl 2 rfl) ?_
      refine lv_iload hx hb dX2_rowOf_24 (lv_at hl 0 rfl) ?_
      refine mm_aald (k := k) hx hb hE hM 8 hqA1 rfl rfl (by omega) (by decide) dX2_rowOf_26 ?_
      rw [hf]
      refine lv_aload_n hx hb dX2_rowOf_27 rfl (lv_at hl 1 rfl) ?_
      refine mm_callS (As := [.int (nI k), .ref ad, .ref rr]) (rest := []) ⟨hx, hb, hml, hown, hts⟩ hE hST hA (c_X2_row l Z (x1 := nI k) (x2 := some ad) (x3 := some rr)) (va_cwS 3 hts (lw_S q2618 q2619 q54 q2620) rfl rfl rfl (by decide +kernel) ⟨(by (try dsimp only); omega), (by (try dsimp only); omega)⟩) hM hS rfl hl.1 (Nat.le_of_ble_eq_true rfl) dX2_rowOf_28 rfl ⟨(by (try dsimp only); omega), (by (try dsimp only); omega)⟩ (fun _ _ _ _ _ _ h9 => h9.elim) (fun v_2 M_3 H locs hp_4 hM hS => ?_)
      obtain ⟨rr2, hn2, rfl, eM_3⟩ := hp_4
      have hex2 : mm_Ext M1 M_3 := by rw [eM_3]; exact mm_Ext.U hn2
      have hcell : M_3 rr2 = some (mr_E 2 none (nI k) (some ad) (some rr) 0 false) := by rw [eM_3]; exact mm_U_eq
      refine lv_goto (tgt := 35) hx hb dX2_rowOf_31 (by decide) ?_
      refine lv_astore_n hx hb dX2_rowOf_35 rfl hl (by decide) rfl (fun ls hl => ?_)
      replace hl : lv_has ls 5 [(3, .ref rr2), (4, .int (nI k)), (0, .ref q), (1, .int st9)] := hl
      obtain ⟨x_5, ex_5⟩ : ∃ z : Int32, z = (nI k) + (-1) := ⟨_, rfl⟩
      refine lv_iinc (v := x_5) (lv' := [(4, .int x_5), (3, .ref rr2), (0, .ref q), (1, .int st9)]) hx hb dX2_rowOf_36 hl (k := 1) rfl (by rw [ex_5]; rfl) (by decide) rfl (fun ls hl => ?_)
      rw [ex_5] at hl
      refine lv_goto (tgt := 6) hx hb dX2_rowOf_39 (by decide) ?_
      refine ih k (by omega) _ _ _ _ _ _ ⟨rr2, (.add (.pow x1 k) e2), by omega, lv_sub hl [0, 1, 2, 3] rfl, hex.trans hex2, mtp_row (by omega) hcell ((hx1.ext hex).ext hex2) (ht2.ext hex2), by rw [← hus]; simp only [usome, hu9, hg], mnext_r hcell, by (try dsimp only); omega, by (try dsimp only); omega⟩ hM hS
