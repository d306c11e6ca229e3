/-! ===== finding ends ===== -/
set_option maxRecDepth 100000
def pMo {α : Type} (x : Nat → pX α) : Prop := ∀ n r, x n = some r → x (n + 1) = some r
def pEn {α : Type} (x : Nat → pX α) : Prop := ∃ n r, x n = some r
theorem pMo.up {α : Type} {x : Nat → pX α} (h : pMo x) {n m : Nat} (hn : n ≤ m) {r : (Int32 × Nat) ⊕ (pS × α)} (hr : x n = some r) : x m = some r := by
  obtain ⟨d, rfl⟩ := Nat.exists_eq_add_of_le hn
  clear hn
  induction d with
  | zero => exact hr
  | succ d ih => exact h _ _ ih
theorem pMo.const {α : Type} (x : pX α) : pMo fun _ => x := fun _ _ h => h
theorem px_mo {α β : Type} {x : Nat → pX α} {f : Nat → pS → α → pX β} (hx : pMo x) (hf : ∀ s a, pMo fun n => f n s a) : pMo fun n => px (x n) (f n) := fun n r h => by
  dsimp only at h ⊢
  cases e : x n with
  | none => rw [e] at h; cases h
  | some y =>
    rw [hx n y e]
    rw [e] at h
    cases y with
    | inl z => exact h
    | inr z => exact hf z.1 z.2 n r h
theorem at_p_mo {α : Type} {ps : List Nat} {i : Nat} {f : Nat → Nat → pX α} (hf : ∀ j, pMo fun n => f n j) : pMo fun n => at_p ps i (f n) := fun n r h => by
  dsimp only at h ⊢
  unfold at_p at h ⊢
  split at h
  · rename_i j e; exact hf j n r h
  · cases h
theorem px_en {α β : Type} {x : Nat → pX α} {f : Nat → pS → α → pX β} (hx : pMo x) (ex : pEn x) (hf : ∀ s a, pMo fun n => f n s a) (ef : ∀ n s a, x n = some (.inr (s, a)) → pEn fun n => f n s a) : pEn fun n => px (x n) (f n) := by
  obtain ⟨n, y, e⟩ := ex
  cases y with
  | inl z => exact ⟨n, .inl z, by dsimp only; rw [e]; rfl⟩
  | inr z =>
    obtain ⟨m, r, h⟩ := ef n z.1 z.2 e
    refine ⟨max n m, r, ?_⟩
    dsimp only
    rw [hx.up (Nat.le_max_left n m) e]
    exact (hf z.1 z.2).up (Nat.le_max_right n m) h
theorem at_p_en {α : Type} {ps : List Nat} {i j : Nat} {f : Nat → Nat → pX α} (hj : ps[i]? = some j) (h : pEn fun n => f n j) : pEn fun n => at_p ps i (f n) := by
  obtain ⟨n, r, e⟩ := h
  exact ⟨n, r, by dsimp only; unfold at_p; rw [hj]; exact e⟩
theorem p_meet_mo (t : Nat) (s : pS) (x y : ev) : pMo fun n => p_meet n t s x y := fun n r h => by
  dsimp only at h ⊢
  unfold p_meet at h ⊢
  cases e : tU n s.1 x y with
  | none => rw [e] at h; cases h
  | some z => rw [tU_mono n s.1 x y z e]; rw [e] at h; exact h
theorem p_meet_en {t : Nat} {s : pS} {kd : Nat → Bool} {x y : ev} (h : usg s.1 kd) (hx : uwf (uG s.1 kd) false (uap s.1.2.1 x)) (hy : uwf (uG s.1 kd) false (uap s.1.2.1 y)) : pEn fun n => p_meet n t s x y := by
  obtain ⟨n, r, e⟩ := tU_ends h hx hy
  cases r with
  | inl z => exact ⟨n, .inl (z, t), by dsimp only; unfold p_meet; rw [e]⟩
  | inr z => exact ⟨n, .inr ((z, s.2), ()), by dsimp only; unfold p_meet; rw [e]⟩
/-- a family of searches -/
abbrev pRc : Type := Nat → Nat → List p_E → Int32 → pS → pX ev
theorem p_bods_mo {rec : Nat → Nat → List p_E → pS → pX ev} (hr : ∀ t G s, pMo fun n => rec n t G s) {G : List p_E} {to : Nat} : ∀ (cs : List (Nat × Nat × Nat × Nat)) (a : Nat) (s : pS), pMo fun n => p_bods (rec n) n G to a cs s
  | [], a, s => pMo.const _
  | c :: cs, a, s => px_mo (β := Unit) (f := fun n s1 b => px (p_meet n c.2.2.2 s1 b (.var to)) fun s2 _ => p_bods (rec n) n G to (a + 1) cs s2) (hr _ _ _) fun s1 b => px_mo (β := Unit) (f := fun n s2 _ => p_bods (rec n) n G to (a + 1) cs s2) (p_meet_mo _ _ _ _) fun s2 _ => p_bods_mo hr cs (a + 1) s2
theorem p_match_mo {T : List pt_R} {rec : Nat → Nat → List p_E → pS → pX ev} (hr : ∀ t G s, pMo fun n => rec n t G s) (t j : Nat) (G : List p_E) (lv : Int32) (s : pS) (m : ev) : pMo fun n => p_match T n (rec n) t j G lv s m := by
  intro n r h
  dsimp only at h ⊢
  unfold p_match at h ⊢
  split at h
  · cases h
  · exact h
  · rename_i cs e hcs
    split at h
    · cases h
    · rename_i re hre
      by_cases h16 : re.1 = 16
      · rw [if_pos h16] at h ⊢
        exact px_mo (β := ev) (x := fun n => p_meet n t (p_new (p_news s lv cs.length) lv (p_lab cs)) m (.pow (p_row s.1.1 (.var (s.1.1 + cs.length)) cs) 1))
          (f := fun n s1 _ => px (p_bods (rec n) n G s1.1.1 s.1.1 cs (p_new s1 lv 0)) fun s2 _ => px (at_p re.2.2.2.1 0 fun b => rec n b ((nN re.2.1, .pow (.var (s.1.1 + cs.length)) 1, false) :: G) s2) fun s3 b => px (p_meet n e s3 b (.var s1.1.1)) fun s4 _ => some (.inr (s4, .var s1.1.1)))
          (p_meet_mo _ _ _ _) (fun s1 _ => px_mo (β := ev) (f := fun n s2 _ => px (at_p re.2.2.2.1 0 fun b => rec n b ((nN re.2.1, .pow (.var (s.1.1 + cs.length)) 1, false) :: G) s2) fun s3 b => px (p_meet n e s3 b (.var s1.1.1)) fun s4 _ => some (.inr (s4, .var s1.1.1))) (p_bods_mo hr _ _ _)
            (fun s2 _ => px_mo (β := ev) (f := fun n s3 b => px (p_meet n e s3 b (.var s1.1.1)) fun s4 _ => some (.inr (s4, .var s1.1.1))) (at_p_mo (α := ev) (f := fun n b => rec n b ((nN re.2.1, .pow (.var (s.1.1 + cs.length)) 1, false) :: G) s2) (fun j => hr _ _ _))
              (fun s3 b => px_mo (β := ev) (f := fun n s4 _ => some (.inr (s4, .var s1.1.1))) (p_meet_mo _ _ _ _) (fun s4 _ => pMo.const _)))) n r h
      · rw [if_neg h16] at h ⊢
        exact px_mo (β := ev) (x := fun n => p_meet n t (p_news s lv cs.length) m (.pow (p_row s.1.1 (.natCast 0) cs) 1)) (f := fun n s1 _ => px (p_bods (rec n) n G s1.1.1 s.1.1 cs (p_new s1 lv 0)) fun s2 _ => some (.inr (s2, .var s1.1.1)))
          (p_meet_mo _ _ _ _) (fun s1 _ => px_mo (β := ev) (f := fun n s2 _ => some (.inr (s2, .var s1.1.1))) (p_bods_mo hr _ _ _) (fun s2 _ => pMo.const _)) n r h
theorem p_step_mo {T : List pt_R} {rec : pRc} (hr : ∀ t G lv s, pMo fun n => rec n t G lv s) (t : Nat) (r : pt_R) (G : List p_E) (lv : Int32) (s : pS) : pMo fun n => p_step T n (rec n) t r G lv s := by
  have ha : ∀ (i : Nat) (G : List p_E) (lv : Int32) (s : pS), pMo fun n => at_p r.2.2.2.1 i fun j => rec n j G lv s := fun i G lv s => at_p_mo (α := ev) (f := fun n j => rec n j G lv s) (fun j => hr _ _ _ _)
  intro n res h
  dsimp only at h ⊢
  unfold p_step at h ⊢
  by_cases hk0 : r.1 = 0
  · rw [if_pos hk0] at h ⊢; exact h
  rw [if_neg hk0] at h ⊢
  by_cases hk1 : r.1 = 1
  · rw [if_pos hk1] at h ⊢; exact h
  rw [if_neg hk1] at h ⊢
  by_cases hk2 : r.1 = 2
  · rw [if_pos hk2] at h ⊢
    exact px_mo (β := ev) (f := fun n s1 b => some (.inr (s1, .sub (.var s.1.1) b))) (ha 0 _ _ _) (fun s1 b => pMo.const _) n res h
  rw [if_neg hk2] at h ⊢
  by_cases hk3 : r.1 = 3
  · rw [if_pos hk3] at h ⊢
    exact px_mo (β := ev) (f := fun n s1 f => px (at_p r.2.2.2.1 1 fun j => rec n j G lv s1) fun s2 g => px (p_meet n t (p_new s2 lv 0) f (.sub g (.var s2.1.1))) fun s3 _ => some (.inr (s3, .var s2.1.1))) (ha 0 _ _ _)
      (fun s1 f => px_mo (β := ev) (f := fun n s2 g => px (p_meet n t (p_new s2 lv 0) f (.sub g (.var s2.1.1))) fun s3 _ => some (.inr (s3, .var s2.1.1))) (ha 1 _ _ _) (fun s2 g => px_mo (β := ev) (f := fun n s3 _ => some (.inr (s3, .var s2.1.1))) (p_meet_mo _ _ _ _) (fun _ _ => pMo.const _))) n res h
  rw [if_neg hk3] at h ⊢
  by_cases hk4 : r.1 = 4
  · rw [if_pos hk4] at h ⊢
    exact px_mo (β := ev) (f := fun n s1 b => at_p r.2.2.2.1 1 fun j => rec n j ((nN r.2.1, b, true) :: G) lv (p_gen s1 lv t b)) (ha 0 _ _ _) (fun s1 b => ha 1 _ _ _) n res h
  rw [if_neg hk4] at h ⊢
  by_cases hk5 : r.1 = 5
  · rw [if_pos hk5] at h ⊢
    exact px_mo (β := ev) (f := fun n s1 b => px (p_meet n t s1 b (.var s.1.1)) fun s2 _ => at_p r.2.2.2.1 1 fun j => rec n j ((nN r.2.1, b, true) :: G) lv (p_gen s2 lv t b)) (ha 0 _ _ _)
      (fun s1 b => px_mo (β := ev) (f := fun n s2 _ => at_p r.2.2.2.1 1 fun j => rec n j ((nN r.2.1, b, true) :: G) lv (p_gen s2 lv t b)) (p_meet_mo _ _ _ _) (fun s2 _ => ha 1 _ _ _)) n res h
  rw [if_neg hk5] at h ⊢
  by_cases hk6 : r.1 = 6
  · rw [if_pos hk6] at h ⊢; exact h
  rw [if_neg hk6] at h ⊢
  by_cases hk7 : r.1 = 7
  · rw [if_pos hk7] at h ⊢
    exact px_mo (β := ev) (f := fun n s1 f => px (at_p r.2.2.2.1 1 fun j => rec n j G lv s1) fun s2 w => px (p_meet n t s2 w (.pow (.var s.1.1) 0)) fun s3 _ => some (.inr (s3, .pow (.add (.pow f (nN r.2.1)) (.var s.1.1)) 0))) (ha 0 _ _ _)
      (fun s1 f => px_mo (β := ev) (f := fun n s2 w => px (p_meet n t s2 w (.pow (.var s.1.1) 0)) fun s3 _ => some (.inr (s3, .pow (.add (.pow f (nN r.2.1)) (.var s.1.1)) 0))) (ha 1 _ _ _) (fun s2 w => px_mo (β := ev) (f := fun n s3 _ => some (.inr (s3, .pow (.add (.pow f (nN r.2.1)) (.var s.1.1)) 0))) (p_meet_mo _ _ _ _) (fun _ _ => pMo.const _))) n res h
  rw [if_neg hk7] at h ⊢
  by_cases hk8 : r.1 = 8 ∨ r.1 = 9
  · rw [if_pos hk8] at h ⊢
    exact px_mo (β := ev) (f := fun n s1 f => px (p_meet n t (p_new s1 lv 0) f (.pow (.add (.pow (.var s1.1.1) (nN r.2.1)) (.var s.1.1)) 0)) fun s2 _ => some (.inr (s2, if r.1 = 8 then .var s1.1.1 else .pow (.var s.1.1) 0))) (ha 0 _ _ _)
      (fun s1 f => px_mo (β := ev) (f := fun n s2 _ => some (.inr (s2, if r.1 = 8 then .var s1.1.1 else .pow (.var s.1.1) 0))) (p_meet_mo _ _ _ _) (fun _ _ => pMo.const _)) n res h
  rw [if_neg hk8] at h ⊢
  by_cases hk9 : r.1 = 10
  · rw [if_pos hk9] at h ⊢
    exact px_mo (β := ev) (f := fun n s1 f => some (.inr (s1, .pow (.add (.pow f (nN r.2.1)) (.var s.1.1)) 1))) (ha 0 _ _ _) (fun _ _ => pMo.const _) n res h
  rw [if_neg hk9] at h ⊢
  by_cases hk10 : r.1 = 11
  · rw [if_pos hk10] at h ⊢
    exact px_mo (β := ev) (f := fun n s1 m => at_p r.2.2.2.1 1 fun j => p_match T n (fun b G s => rec n b G lv s) t j G lv s1 m) (ha 0 _ _ _)
      (fun s1 m => at_p_mo (α := ev) (f := fun n j => p_match T n (fun b G s => rec n b G lv s) t j G lv s1 m) (fun j => p_match_mo (rec := fun n b G s => rec n b G lv s) (fun t G s => hr t G lv s) _ _ _ _ _ _)) n res h
  rw [if_neg hk10] at h ⊢
  by_cases hk11 : r.1 = 12
  · rw [if_pos hk11] at h ⊢
    exact px_mo (β := ev) (f := fun n s1 f => px (p_meet n t s1 f (.natCast 0)) fun s2 _ => px (at_p r.2.2.2.1 1 fun j => rec n j G lv s2) fun s3 x => px (at_p r.2.2.2.1 2 fun j => rec n j G lv s3) fun s4 y => px (p_meet n t s4 y x) fun s5 _ => some (.inr (s5, x))) (ha 0 _ _ _)
      (fun s1 f => px_mo (β := ev) (f := fun n s2 _ => px (at_p r.2.2.2.1 1 fun j => rec n j G lv s2) fun s3 x => px (at_p r.2.2.2.1 2 fun j => rec n j G lv s3) fun s4 y => px (p_meet n t s4 y x) fun s5 _ => some (.inr (s5, x))) (p_meet_mo _ _ _ _)
        (fun s2 _ => px_mo (β := ev) (f := fun n s3 x => px (at_p r.2.2.2.1 2 fun j => rec n j G lv s3) fun s4 y => px (p_meet n t s4 y x) fun s5 _ => some (.inr (s5, x))) (ha 1 _ _ _)
          (fun s3 x => px_mo (β := ev) (f := fun n s4 y => px (p_meet n t s4 y x) fun s5 _ => some (.inr (s5, x))) (ha 2 _ _ _) (fun s4 y => px_mo (β := ev) (f := fun n s5 _ => some (.inr (s5, x))) (p_meet_mo _ _ _ _) (fun _ _ => pMo.const _))))) n res h
  rw [if_neg hk11] at h ⊢
  by_cases hk12 : r.1 = 13
  · rw [if_pos hk12] at h ⊢
    exact px_mo (β := ev) (f := fun n s1 x => px (at_p r.2.2.2.1 1 fun j => rec n j G lv s1) fun s2 y => px (p_meet n t s2 x (.natCast 0)) fun s3 _ => px (p_meet n t s3 y (.natCast 0)) fun s4 _ => some (.inr (s4, .natCast 0))) (ha 0 _ _ _)
      (fun s1 x => px_mo (β := ev) (f := fun n s2 y => px (p_meet n t s2 x (.natCast 0)) fun s3 _ => px (p_meet n t s3 y (.natCast 0)) fun s4 _ => some (.inr (s4, .natCast 0))) (ha 1 _ _ _)
        (fun s2 y => px_mo (β := ev) (f := fun n s3 _ => px (p_meet n t s3 y (.natCast 0)) fun s4 _ => some (.inr (s4, .natCast 0))) (p_meet_mo _ _ _ _) (fun s3 _ => px_mo (β := ev) (f := fun n s4 _ => some (.inr (s4, .natCast 0))) (p_meet_mo _ _ _ _) (fun _ _ => pMo.const _)))) n res h
  rw [if_neg hk12] at h ⊢
  by_cases hk13 : r.1 = 14
  · rw [if_pos hk13] at h ⊢
    exact px_mo (β := ev) (f := fun n s1 x => px (at_p r.2.2.2.1 1 fun j => rec n j G lv s1) fun s2 y => px (p_meet n t s2 y x) fun s3 _ => px (p_like t s3 x) fun s4 _ => some (.inr (s4, .natCast 0))) (ha 0 _ _ _)
      (fun s1 x => px_mo (β := ev) (f := fun n s2 y => px (p_meet n t s2 y x) fun s3 _ => px (p_like t s3 x) fun s4 _ => some (.inr (s4, .natCast 0))) (ha 1 _ _ _)
        (fun s2 y => px_mo (β := ev) (f := fun n s3 _ => px (p_like t s3 x) fun s4 _ => some (.inr (s4, .natCast 0))) (p_meet_mo _ _ _ _) (fun s3 _ => pMo.const _))) n res h
  rw [if_neg hk13] at h ⊢
  exact h
theorem p_step_mo2 {T : List pt_R} {n : Nat} {rec rec' : Nat → List p_E → Int32 → pS → pX ev} (hr : ∀ t G lv s r, rec t G lv s = some r → rec' t G lv s = some r) {t : Nat} {r : pt_R} {G : List p_E} {lv : Int32} {s : pS} {res : (Int32 × Nat) ⊕ (pS × ev)} (h : p_step T n rec t r G lv s = some res) : p_step T (n + 1) rec' t r G lv s = some res := by
  have h9 := p_step_mo (T := T) (rec := fun m => if m ≤ n then rec else rec') (fun t G lv s m r h9 => by
    dsimp only at h9 ⊢
    by_cases e : m ≤ n
    · rw [if_pos e] at h9
      by_cases e2 : m + 1 ≤ n
      · rw [if_pos e2]; exact h9
      · rw [if_neg e2]; exact hr _ _ _ _ _ h9
    · rw [if_neg e] at h9
      rw [if_neg (by omega)]; exact h9) t r G lv s n res (by dsimp only; rw [if_pos (Nat.le_refl n)]; exact h)
  dsimp only at h9
  rw [if_neg (by omega)] at h9
  exact h9
/-- MORE FUEL CHANGES NOTHING -/
theorem pF_mo (T : List pt_R) : ∀ (n t : Nat) (G : List p_E) (lv : Int32) (s : pS) (r : (Int32 × Nat) ⊕ (pS × ev)), pF T n t G lv s = some r → pF T (n + 1) t G lv s = some r := by
  intro n
  induction n with
  | zero => intro t G lv s r h; cases h
  | succ n ih =>
    intro t G lv s r h
    unfold pF at h ⊢
    split at h
    · cases h
    · exact p_step_mo2 ih h
