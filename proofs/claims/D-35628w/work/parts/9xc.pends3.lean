/-! ===== finding ends: each kind of term ===== -/
set_option maxRecDepth 100000
theorem p_step_en {T : List pt_R} (hT : pt_lb T) (hS : pt_sh T) {k : Nat} (ih : pAll T k) {r : pt_R} (hr : T[k]? = some r) (hnc : r.1 ≠ 15 ∧ r.1 ≠ 16 ∧ r.1 ≠ 17) {G : List p_E} {lv : Int32} {s : pS} {kd : Nat → Bool} (hG : pGd s kd G) : pEn fun n => p_step T n (pF T n) k r G lv s := by
  have w0 : ∀ (s : pS) (kd : Nat → Bool), uwf (uG s.1 kd) false (uap s.1.2.1 (.natCast 0)) := fun s kd => by simp only [uap, uwf]
  obtain ⟨h1p, h2p, h3p, h4p, hkinds⟩ := hS.2 k r hr
  have ha : ∀ (i : Nat) (G : List p_E) (lv : Int32) (s : pS), pMo fun n => at_p r.2.2.2.1 i fun j => pF T n j G lv s := fun i G lv s => at_p_mo (α := ev) (f := fun n j => pF T n j G lv s) (fun j => pF_mo2 T _ _ _ _)
  have en : ∀ (i a : Nat) (G : List p_E) (lv : Int32) (s : pS) (kd : Nat → Bool), r.2.2.2.1[i]? = some a → pt_nc T k a → pGd s kd G → pEn fun n => at_p r.2.2.2.1 i fun j => pF T n j G lv s := fun i a G lv s kd hi hna hG => at_p_en (f := fun n j => pF T n j G lv s) hi (ih _ _ _ _ kd hna hG)
  have gd : ∀ {n i : Nat} {G : List p_E} {lv : Int32} {s : pS} {kd : Nat → Bool} {s1 : pS} {b : ev}, pGd s kd G → (at_p r.2.2.2.1 i fun j => pF T n j G lv s) = some (.inr (s1, b)) → ∃ kd', uGo s.1 kd s1.1 kd' ∧ uwf (uG s1.1 kd') false (uap s1.1.2.1 b) := fun {n i G lv s kd s1 b} hG h => by
    obtain ⟨j, -, h⟩ := at_p_inr h
    exact pF_good hT n _ _ _ _ _ _ hG h
  unfold p_step
  by_cases hk0 : r.1 = 0
  · simp only [if_pos hk0]; exact ⟨0, _, rfl⟩
  simp only [if_neg hk0]
  by_cases hk1 : r.1 = 1
  · simp only [if_pos hk1]
    cases e : G.find? fun e => e.1 == nN r.2.1 with
    | none => exact ⟨0, _, rfl⟩
    | some e => exact ⟨0, _, rfl⟩
  simp only [if_neg hk1]
  by_cases hk2 : r.1 = 2
  · simp only [if_pos hk2]
    obtain ⟨a, hp, na⟩ := h1p (Or.inl hk2)
    obtain ⟨g1, w1, -⟩ := p_new_go hG.1 lv 0 false
    exact px_en (β := ev) (f := fun n s1 b => some (.inr (s1, .sub (.var s.1.1) b))) (ha 0 _ _ _) (en 0 a _ _ _ _ (by rw [hp]; rfl) na ((hG.go g1).cons w1)) (fun _ _ => pMo.const _) (fun _ _ _ _ => ⟨0, _, rfl⟩)
  simp only [if_neg hk2]
  by_cases hk3 : r.1 = 3
  · simp only [if_pos hk3]
    obtain ⟨a, b, hp, na, nb⟩ := h2p (Or.inl hk3)
    refine px_en (β := ev) (f := fun n s1 f => px (at_p r.2.2.2.1 1 fun j => pF T n j G lv s1) fun s2 g => px (p_meet n k (p_new s2 lv 0) f (.sub g (.var s2.1.1))) fun s3 _ => some (.inr (s3, .var s2.1.1))) (ha 0 _ _ _) (en 0 a _ _ _ kd (by rw [hp]; rfl) na hG)
      (fun s1 f => px_mo (β := ev) (f := fun n s2 g => px (p_meet n k (p_new s2 lv 0) f (.sub g (.var s2.1.1))) fun s3 _ => some (.inr (s3, .var s2.1.1))) (ha 1 _ _ _) (fun s2 g => px_mo (β := ev) (f := fun n s3 _ => some (.inr (s3, .var s2.1.1))) (p_meet_mo _ _ _ _) (fun _ _ => pMo.const _))) (fun n1 s1 f e1 => ?_)
    obtain ⟨kd1, g1, w1⟩ := gd hG e1
    refine px_en (β := ev) (f := fun n s2 g => px (p_meet n k (p_new s2 lv 0) f (.sub g (.var s2.1.1))) fun s3 _ => some (.inr (s3, .var s2.1.1))) (ha 1 _ _ _) (en 1 b _ _ _ _ (by rw [hp]; rfl) nb (hG.go g1)) (fun s2 g => px_mo (β := ev) (f := fun n s3 _ => some (.inr (s3, .var s2.1.1))) (p_meet_mo _ _ _ _) (fun _ _ => pMo.const _)) (fun n2 s2 g e2 => ?_)
    obtain ⟨kd2, g2, w2⟩ := gd (hG.go g1) e2
    obtain ⟨g3, w3, -⟩ := p_new_go g2.2.1 lv 0 false
    exact px_en (β := ev) (f := fun n s3 _ => some (.inr (s3, .var s2.1.1))) (p_meet_mo _ _ _ _) (p_meet_en g3.2.1 ((g2.trans g3).wf w1) (y := .sub g (.var s2.1.1)) ⟨g3.wf w2, w3⟩) (fun _ _ => pMo.const _) (fun _ _ _ _ => ⟨0, _, rfl⟩)
  simp only [if_neg hk3]
  by_cases hk4 : r.1 = 4
  · simp only [if_pos hk4]
    obtain ⟨a, b, hp, na, nb⟩ := h2p (Or.inr (Or.inl hk4))
    refine px_en (β := ev) (f := fun n s1 b => at_p r.2.2.2.1 1 fun j => pF T n j ((nN r.2.1, b, true) :: G) lv (p_gen s1 lv k b)) (ha 0 _ _ _) (en 0 a _ _ _ kd (by rw [hp]; rfl) na hG) (fun s1 b => ha 1 _ _ _) (fun n1 s1 f e1 => ?_)
    obtain ⟨kd1, g1, w1⟩ := gd hG e1
    have g2 := p_gen_go g1.2.1 lv k f
    exact en 1 b _ _ _ kd1 (by rw [hp]; rfl) nb ((hG.go (s' := p_gen s1 lv k f) (g1.trans g2)).cons (e := (nN r.2.1, f, true)) (g2.wf w1))
  simp only [if_neg hk4]
  by_cases hk5 : r.1 = 5
  · simp only [if_pos hk5]
    obtain ⟨a, b, hp, na, nb⟩ := h2p (Or.inr (Or.inr (Or.inl hk5)))
    obtain ⟨g0, w0', -⟩ := p_new_go hG.1 (lv + 1) 0 false
    refine px_en (β := ev) (f := fun n s1 b => px (p_meet n k s1 b (.var s.1.1)) fun s2 _ => at_p r.2.2.2.1 1 fun j => pF T n j ((nN r.2.1, b, true) :: G) lv (p_gen s2 lv k b)) (ha 0 _ _ _) (en 0 a _ _ _ _ (by rw [hp]; rfl) na ((hG.go g0).cons (e := (nN r.2.1, .var s.1.1, false)) w0'))
      (fun s1 b => px_mo (β := ev) (f := fun n s2 _ => at_p r.2.2.2.1 1 fun j => pF T n j ((nN r.2.1, b, true) :: G) lv (p_gen s2 lv k b)) (p_meet_mo _ _ _ _) (fun s2 _ => ha 1 _ _ _)) (fun n1 s1 f e1 => ?_)
    obtain ⟨kd1, g1, w1⟩ := gd ((hG.go g0).cons (e := (nN r.2.1, .var s.1.1, false)) w0') e1
    refine px_en (β := ev) (f := fun n s2 _ => at_p r.2.2.2.1 1 fun j => pF T n j ((nN r.2.1, f, true) :: G) lv (p_gen s2 lv k f)) (p_meet_mo _ _ _ _) (p_meet_en g1.2.1 w1 (g1.wf w0')) (fun s2 _ => ha 1 _ _ _) (fun n2 s2 u2 e2 => ?_)
    obtain ⟨kd2, g2⟩ := p_meet_go g1.2.1 w1 (g1.wf w0') e2
    have g3 := p_gen_go g2.2.1 lv k f
    exact en 1 b _ _ _ kd2 (by rw [hp]; rfl) nb ((hG.go (s' := p_gen s2 lv k f) (((g0.trans g1).trans g2).trans g3)).cons (e := (nN r.2.1, f, true)) ((g2.trans g3).wf w1))
  simp only [if_neg hk5]
  by_cases hk6 : r.1 = 6
  · simp only [if_pos hk6]; exact ⟨0, _, rfl⟩
  simp only [if_neg hk6]
  by_cases hk7 : r.1 = 7
  · simp only [if_pos hk7]
    obtain ⟨a, b, hp, na, nb⟩ := h2p (Or.inr (Or.inr (Or.inr (Or.inl hk7))))
    obtain ⟨g0, w0', l0⟩ := p_new_go hG.1 lv (1 <<< (r.2.1 &&& 31)) true
    refine px_en (β := ev) (f := fun n s1 f => px (at_p r.2.2.2.1 1 fun j => pF T n j G lv s1) fun s2 w => px (p_meet n k s2 w (.pow (.var s.1.1) 0)) fun s3 _ => some (.inr (s3, .pow (.add (.pow f (nN r.2.1)) (.var s.1.1)) 0))) (ha 0 _ _ _) (en 0 a _ _ _ _ (by rw [hp]; rfl) na (hG.go g0))
      (fun s1 f => px_mo (β := ev) (f := fun n s2 w => px (p_meet n k s2 w (.pow (.var s.1.1) 0)) fun s3 _ => some (.inr (s3, .pow (.add (.pow f (nN r.2.1)) (.var s.1.1)) 0))) (ha 1 _ _ _) (fun s2 w => px_mo (β := ev) (f := fun n s3 _ => some (.inr (s3, .pow (.add (.pow f (nN r.2.1)) (.var s.1.1)) 0))) (p_meet_mo _ _ _ _) (fun _ _ => pMo.const _))) (fun n1 s1 f e1 => ?_)
    obtain ⟨kd1, g1, w1⟩ := gd (hG.go g0) e1
    refine px_en (β := ev) (f := fun n s2 w => px (p_meet n k s2 w (.pow (.var s.1.1) 0)) fun s3 _ => some (.inr (s3, .pow (.add (.pow f (nN r.2.1)) (.var s.1.1)) 0))) (ha 1 _ _ _) (en 1 b _ _ _ _ (by rw [hp]; rfl) nb (hG.go (g0.trans g1))) (fun s2 w => px_mo (β := ev) (f := fun n s3 _ => some (.inr (s3, .pow (.add (.pow f (nN r.2.1)) (.var s.1.1)) 0))) (p_meet_mo _ _ _ _) (fun _ _ => pMo.const _)) (fun n2 s2 w e2 => ?_)
    obtain ⟨kd2, g2, w2⟩ := gd (hG.go (g0.trans g1)) e2
    exact px_en (β := ev) (f := fun n s3 _ => some (.inr (s3, .pow (.add (.pow f (nN r.2.1)) (.var s.1.1)) 0))) (p_meet_mo _ _ _ _) (p_meet_en g2.2.1 w2 (y := .pow (.var s.1.1) 0) ((g1.trans g2).wf (m := true) w0')) (fun _ _ => pMo.const _) (fun _ _ _ _ => ⟨0, _, rfl⟩)
  simp only [if_neg hk7]
  by_cases hk8 : r.1 = 8 ∨ r.1 = 9
  · simp only [if_pos hk8]
    obtain ⟨b1, b2⟩ := p_lb_bit hT hr (hk8.elim (fun h => Or.inr (Or.inl h)) (fun h => Or.inr (Or.inr (Or.inl h))))
    obtain ⟨a, hp, na⟩ := h1p (hk8.elim (fun h => Or.inr (Or.inl h)) (fun h => Or.inr (Or.inr (Or.inl h))))
    obtain ⟨g0, w0', l0⟩ := p_new_go hG.1 lv (1 <<< (r.2.1 &&& 31)) true
    refine px_en (β := ev) (f := fun n s1 f => px (p_meet n k (p_new s1 lv 0) f (.pow (.add (.pow (.var s1.1.1) (nN r.2.1)) (.var s.1.1)) 0)) fun s2 _ => some (.inr (s2, if r.1 = 8 then .var s1.1.1 else .pow (.var s.1.1) 0))) (ha 0 _ _ _) (en 0 a _ _ _ _ (by rw [hp]; rfl) na (hG.go g0))
      (fun s1 f => px_mo (β := ev) (f := fun n s2 _ => some (.inr (s2, if r.1 = 8 then .var s1.1.1 else .pow (.var s.1.1) 0))) (p_meet_mo _ _ _ _) (fun _ _ => pMo.const _)) (fun n1 s1 f e1 => ?_)
    obtain ⟨kd1, g1, w1⟩ := gd (hG.go g0) e1
    obtain ⟨g2, w2, -⟩ := p_new_go g1.2.1 lv 0 false
    exact px_en (β := ev) (f := fun n s2 _ => some (.inr (s2, if r.1 = 8 then .var s1.1.1 else .pow (.var s.1.1) 0))) (p_meet_mo _ _ _ _) (p_meet_en g2.2.1 (g2.wf w1) (y := .pow (.add (.pow (.var s1.1.1) (nN r.2.1)) (.var s.1.1)) 0) (cell_wf (g1.trans g2) (Nat.lt_succ_self _) (if_pos rfl) b1 (by rw [l0]; exact b2) w2)) (fun _ _ => pMo.const _) (fun _ _ _ _ => ⟨0, _, rfl⟩)
  simp only [if_neg hk8]
  by_cases hk9 : r.1 = 10
  · simp only [if_pos hk9]
    obtain ⟨a, hp, na⟩ := h1p (Or.inr (Or.inr (Or.inr (Or.inl hk9))))
    obtain ⟨g0, w0', l0⟩ := p_new_go hG.1 lv (1 <<< (r.2.1 &&& 31)) true
    exact px_en (β := ev) (f := fun n s1 f => some (.inr (s1, .pow (.add (.pow f (nN r.2.1)) (.var s.1.1)) 1))) (ha 0 _ _ _) (en 0 a _ _ _ _ (by rw [hp]; rfl) na (hG.go g0)) (fun _ _ => pMo.const _) (fun _ _ _ _ => ⟨0, _, rfl⟩)
  simp only [if_neg hk9]
  by_cases hk10 : r.1 = 11
  · simp only [if_pos hk10]
    obtain ⟨a, b, hp, na, hb, hrb⟩ := h4p (Or.inl hk10)
    refine px_en (β := ev) (f := fun n s1 m => at_p r.2.2.2.1 1 fun j => p_match T n (fun b G s => pF T n b G lv s) k j G lv s1 m) (ha 0 _ _ _) (en 0 a _ _ _ kd (by rw [hp]; rfl) na hG)
      (fun s1 m => at_p_mo (α := ev) (f := fun n j => p_match T n (fun b G s => pF T n b G lv s) k j G lv s1 m) (fun j => p_match_mo (rec := fun n b G s => pF T n b G lv s) (fun t G s => pF_mo2 T t G lv s) _ _ _ _ _ _)) (fun n1 s1 m e1 => ?_)
    obtain ⟨kd1, g1, w1⟩ := gd hG e1
    exact at_p_en (f := fun n j => p_match T n (fun b G s => pF T n b G lv s) k j G lv s1 m) (show r.2.2.2.1[1]? = some b by rw [hp]; rfl) (p_match_en hT hS ih ⟨hb, hrb⟩ (hG.go g1) w1)
  simp only [if_neg hk10]
  by_cases hk11 : r.1 = 12
  · simp only [if_pos hk11]
    obtain ⟨a, b, c, hp, na, nb, nc⟩ := h3p hk11
    refine px_en (β := ev) (f := fun n s1 f => px (p_meet n k s1 f (.natCast 0)) fun s2 _ => px (at_p r.2.2.2.1 1 fun j => pF T n j G lv s2) fun s3 x => px (at_p r.2.2.2.1 2 fun j => pF T n j G lv s3) fun s4 y => px (p_meet n k s4 y x) fun s5 _ => some (.inr (s5, x))) (ha 0 _ _ _) (en 0 a _ _ _ kd (by rw [hp]; rfl) na hG)
      (fun s1 f => px_mo (β := ev) (f := fun n s2 _ => px (at_p r.2.2.2.1 1 fun j => pF T n j G lv s2) fun s3 x => px (at_p r.2.2.2.1 2 fun j => pF T n j G lv s3) fun s4 y => px (p_meet n k s4 y x) fun s5 _ => some (.inr (s5, x))) (p_meet_mo _ _ _ _)
        (fun s2 _ => px_mo (β := ev) (f := fun n s3 x => px (at_p r.2.2.2.1 2 fun j => pF T n j G lv s3) fun s4 y => px (p_meet n k s4 y x) fun s5 _ => some (.inr (s5, x))) (ha 1 _ _ _)
          (fun s3 x => px_mo (β := ev) (f := fun n s4 y => px (p_meet n k s4 y x) fun s5 _ => some (.inr (s5, x))) (ha 2 _ _ _) (fun s4 y => px_mo (β := ev) (f := fun n s5 _ => some (.inr (s5, x))) (p_meet_mo _ _ _ _) (fun _ _ => pMo.const _))))) (fun n1 s1 f e1 => ?_)
    obtain ⟨kd1, g1, w1⟩ := gd hG e1
    refine px_en (β := ev) (f := fun n s2 _ => px (at_p r.2.2.2.1 1 fun j => pF T n j G lv s2) fun s3 x => px (at_p r.2.2.2.1 2 fun j => pF T n j G lv s3) fun s4 y => px (p_meet n k s4 y x) fun s5 _ => some (.inr (s5, x))) (p_meet_mo _ _ _ _) (p_meet_en g1.2.1 w1 (w0 _ _))
        (fun s2 _ => px_mo (β := ev) (f := fun n s3 x => px (at_p r.2.2.2.1 2 fun j => pF T n j G lv s3) fun s4 y => px (p_meet n k s4 y x) fun s5 _ => some (.inr (s5, x))) (ha 1 _ _ _)
          (fun s3 x => px_mo (β := ev) (f := fun n s4 y => px (p_meet n k s4 y x) fun s5 _ => some (.inr (s5, x))) (ha 2 _ _ _) (fun s4 y => px_mo (β := ev) (f := fun n s5 _ => some (.inr (s5, x))) (p_meet_mo _ _ _ _) (fun _ _ => pMo.const _)))) (fun n2 s2 u2 e2 => ?_)
    obtain ⟨kd2, g2⟩ := p_meet_go g1.2.1 w1 (w0 _ _) e2
    refine px_en (β := ev) (f := fun n s3 x => px (at_p r.2.2.2.1 2 fun j => pF T n j G lv s3) fun s4 y => px (p_meet n k s4 y x) fun s5 _ => some (.inr (s5, x))) (ha 1 _ _ _) (en 1 b _ _ _ _ (by rw [hp]; rfl) nb (hG.go (g1.trans g2)))
          (fun s3 x => px_mo (β := ev) (f := fun n s4 y => px (p_meet n k s4 y x) fun s5 _ => some (.inr (s5, x))) (ha 2 _ _ _) (fun s4 y => px_mo (β := ev) (f := fun n s5 _ => some (.inr (s5, x))) (p_meet_mo _ _ _ _) (fun _ _ => pMo.const _))) (fun n3 s3 x e3 => ?_)
    obtain ⟨kd3, g3, w3⟩ := gd (hG.go (g1.trans g2)) e3
    refine px_en (β := ev) (f := fun n s4 y => px (p_meet n k s4 y x) fun s5 _ => some (.inr (s5, x))) (ha 2 _ _ _) (en 2 c _ _ _ _ (by rw [hp]; rfl) nc (hG.go ((g1.trans g2).trans g3))) (fun s4 y => px_mo (β := ev) (f := fun n s5 _ => some (.inr (s5, x))) (p_meet_mo _ _ _ _) (fun _ _ => pMo.const _)) (fun n4 s4 y e4 => ?_)
    obtain ⟨kd4, g4, w4⟩ := gd (hG.go ((g1.trans g2).trans g3)) e4
    exact px_en (β := ev) (f := fun n s5 _ => some (.inr (s5, x))) (p_meet_mo _ _ _ _) (p_meet_en g4.2.1 w4 (g4.wf w3)) (fun _ _ => pMo.const _) (fun _ _ _ _ => ⟨0, _, rfl⟩)
  simp only [if_neg hk11]
  by_cases hk12 : r.1 = 13
  · simp only [if_pos hk12]
    obtain ⟨a, b, hp, na, nb⟩ := h2p (Or.inr (Or.inr (Or.inr (Or.inr (Or.inl hk12)))))
    refine px_en (β := ev) (f := fun n s1 x => px (at_p r.2.2.2.1 1 fun j => pF T n j G lv s1) fun s2 y => px (p_meet n k s2 x (.natCast 0)) fun s3 _ => px (p_meet n k s3 y (.natCast 0)) fun s4 _ => some (.inr (s4, .natCast 0))) (ha 0 _ _ _) (en 0 a _ _ _ kd (by rw [hp]; rfl) na hG)
      (fun s1 x => px_mo (β := ev) (f := fun n s2 y => px (p_meet n k s2 x (.natCast 0)) fun s3 _ => px (p_meet n k s3 y (.natCast 0)) fun s4 _ => some (.inr (s4, .natCast 0))) (ha 1 _ _ _)
        (fun s2 y => px_mo (β := ev) (f := fun n s3 _ => px (p_meet n k s3 y (.natCast 0)) fun s4 _ => some (.inr (s4, .natCast 0))) (p_meet_mo _ _ _ _) (fun s3 _ => px_mo (β := ev) (f := fun n s4 _ => some (.inr (s4, .natCast 0))) (p_meet_mo _ _ _ _) (fun _ _ => pMo.const _)))) (fun n1 s1 x e1 => ?_)
    obtain ⟨kd1, g1, w1⟩ := gd hG e1
    refine px_en (β := ev) (f := fun n s2 y => px (p_meet n k s2 x (.natCast 0)) fun s3 _ => px (p_meet n k s3 y (.natCast 0)) fun s4 _ => some (.inr (s4, .natCast 0))) (ha 1 _ _ _) (en 1 b _ _ _ _ (by rw [hp]; rfl) nb (hG.go g1))
        (fun s2 y => px_mo (β := ev) (f := fun n s3 _ => px (p_meet n k s3 y (.natCast 0)) fun s4 _ => some (.inr (s4, .natCast 0))) (p_meet_mo _ _ _ _) (fun s3 _ => px_mo (β := ev) (f := fun n s4 _ => some (.inr (s4, .natCast 0))) (p_meet_mo _ _ _ _) (fun _ _ => pMo.const _))) (fun n2 s2 y e2 => ?_)
    obtain ⟨kd2, g2, w2⟩ := gd (hG.go g1) e2
    refine px_en (β := ev) (f := fun n s3 _ => px (p_meet n k s3 y (.natCast 0)) fun s4 _ => some (.inr (s4, .natCast 0))) (p_meet_mo _ _ _ _) (p_meet_en g2.2.1 (g2.wf w1) (w0 _ _)) (fun s3 _ => px_mo (β := ev) (f := fun n s4 _ => some (.inr (s4, .natCast 0))) (p_meet_mo _ _ _ _) (fun _ _ => pMo.const _)) (fun n3 s3 u3 e3 => ?_)
    obtain ⟨kd3, g3⟩ := p_meet_go g2.2.1 (g2.wf w1) (w0 _ _) e3
    exact px_en (β := ev) (f := fun n s4 _ => some (.inr (s4, .natCast 0))) (p_meet_mo _ _ _ _) (p_meet_en g3.2.1 (g3.wf w2) (w0 _ _)) (fun _ _ => pMo.const _) (fun _ _ _ _ => ⟨0, _, rfl⟩)
  simp only [if_neg hk12]
  by_cases hk13 : r.1 = 14
  · simp only [if_pos hk13]
    obtain ⟨a, b, hp, na, nb⟩ := h2p (Or.inr (Or.inr (Or.inr (Or.inr (Or.inr hk13)))))
    refine px_en (β := ev) (f := fun n s1 x => px (at_p r.2.2.2.1 1 fun j => pF T n j G lv s1) fun s2 y => px (p_meet n k s2 y x) fun s3 _ => px (p_like k s3 x) fun s4 _ => some (.inr (s4, .natCast 0))) (ha 0 _ _ _) (en 0 a _ _ _ kd (by rw [hp]; rfl) na hG)
      (fun s1 x => px_mo (β := ev) (f := fun n s2 y => px (p_meet n k s2 y x) fun s3 _ => px (p_like k s3 x) fun s4 _ => some (.inr (s4, .natCast 0))) (ha 1 _ _ _)
        (fun s2 y => px_mo (β := ev) (f := fun n s3 _ => px (p_like k s3 x) fun s4 _ => some (.inr (s4, .natCast 0))) (p_meet_mo _ _ _ _) (fun s3 _ => pMo.const _))) (fun n1 s1 x e1 => ?_)
    obtain ⟨kd1, g1, w1⟩ := gd hG e1
    refine px_en (β := ev) (f := fun n s2 y => px (p_meet n k s2 y x) fun s3 _ => px (p_like k s3 x) fun s4 _ => some (.inr (s4, .natCast 0))) (ha 1 _ _ _) (en 1 b _ _ _ _ (by rw [hp]; rfl) nb (hG.go g1))
        (fun s2 y => px_mo (β := ev) (f := fun n s3 _ => px (p_like k s3 x) fun s4 _ => some (.inr (s4, .natCast 0))) (p_meet_mo _ _ _ _) (fun s3 _ => pMo.const _)) (fun n2 s2 y e2 => ?_)
    obtain ⟨kd2, g2, w2⟩ := gd (hG.go g1) e2
    refine px_en (β := ev) (f := fun n s3 _ => px (p_like k s3 x) fun s4 _ => some (.inr (s4, .natCast 0))) (p_meet_mo _ _ _ _) (p_meet_en g2.2.1 w2 (g2.wf w1)) (fun s3 _ => pMo.const _) (fun n3 s3 u3 e3 => ?_)
    unfold p_like
    cases tLike s3.1 (uap s3.1.2.1 x) with
    | inl z => exact ⟨0, _, rfl⟩
    | inr z => exact ⟨0, _, rfl⟩
  exfalso
  rcases hkinds with h | h | h | h | h | h | h | h | h | h | h | h | h | h | h | h | h | h
  · exact hk0 h
  · exact hk1 h
  · exact hk2 h
  · exact hk3 h
  · exact hk4 h
  · exact hk5 h
  · exact hk6 h
  · exact hk7 h
  · exact hk8 (Or.inl h)
  · exact hk8 (Or.inr h)
  · exact hk9 h
  · exact hk10 h
  · exact hk11 h
  · exact hk12 h
  · exact hk13 h
  · exact hnc.1 h
  · exact hnc.2.1 h
  · exact hnc.2.2 h
theorem pAll_of {T : List pt_R} (hT : pt_lb T) (hS : pt_sh T) : ∀ k : Nat, pAll T k
  | 0 => fun t _ _ _ _ h _ => absurd h.1 (Nat.not_lt_zero _)
  | k + 1 => fun t G lv s kd h hG => by
    have ih := pAll_of hT hS k
    obtain ⟨h1, r, hr, hnc⟩ := h
    by_cases e : t = k
    · subst e
      obtain ⟨n, x, hx⟩ := p_step_en hT hS ih hr hnc (lv := lv) hG
      refine ⟨n + 1, x, ?_⟩
      show pF T (n + 1) t G lv s = some x
      unfold pF
      rw [hr]; exact hx
    · exact ih t G lv s kd ⟨by omega, r, hr, hnc⟩ hG
/-- FINDING ENDS -/
theorem pF_ends {T : List pt_R} (hT : pt_lb T) (hS : pt_sh T) {t : Nat} {r : pt_R} (hr : T[t]? = some r) (hnc : r.1 ≠ 15 ∧ r.1 ≠ 16 ∧ r.1 ≠ 17) {G : List p_E} {lv : Int32} {s : pS} {kd : Nat → Bool} (hG : pGd s kd G) : ∃ n x, pF T n t G lv s = some x := pAll_of hT hS (t + 1) t G lv s kd ⟨Nat.lt_succ_self _, r, hr, hnc⟩ hG
