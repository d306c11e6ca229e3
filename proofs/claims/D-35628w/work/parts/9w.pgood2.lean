/-! ===== what is found, is as it should be: whole ===== -/
set_option maxRecDepth 100000
theorem p_step_go {T : List pt_R} (hT : pt_lb T) {n : Nat} {rec : Nat → List p_E → Int32 → pS → pX ev} (hrec : p_snd rec) {t : Nat} {r : pt_R} {G : List p_E} {lv : Int32} {s : pS} {kd : Nat → Bool} {res : pS × ev} (hr : T[t]? = some r) (hG : pGd s kd G) (h : p_step T n rec t r G lv s = some (.inr res)) :
    ∃ kd', uGo s.1 kd res.1.1 kd' ∧ uwf (uG res.1.1 kd') false (uap res.1.1.2.1 res.2) := by
  have w0 : ∀ (s : pS) (kd : Nat → Bool), uwf (uG s.1 kd) false (uap s.1.2.1 (.natCast 0)) := fun s kd => by simp only [uap, uwf]
  unfold p_step at h
  by_cases hk0 : r.1 = 0
  · rw [if_pos hk0] at h
    cases h; exact ⟨kd, uGo.rf hG.1, w0 s kd⟩
  rw [if_neg hk0] at h
  by_cases hk1 : r.1 = 1
  · rw [if_pos hk1] at h
    split at h
    · cases h
    · rename_i e he
      cases h
      exact p_name_go hG lv (List.mem_of_find?_eq_some he)
  rw [if_neg hk1] at h
  by_cases hk2 : r.1 = 2
  · rw [if_pos hk2] at h
    obtain ⟨g1, w1, -⟩ := p_new_go hG.1 lv 0 false
    obtain ⟨s1, b, h1, h⟩ := px_inr h
    obtain ⟨j, -, h1⟩ := at_p_inr h1
    obtain ⟨kd2, g2, w2⟩ := hrec _ _ _ _ _ _ ((hG.go g1).cons (e := (nN r.2.1, .var s.1.1, false)) w1) h1
    cases h
    exact ⟨kd2, g1.trans g2, g2.wf w1, w2⟩
  rw [if_neg hk2] at h
  by_cases hk3 : r.1 = 3
  · rw [if_pos hk3] at h
    obtain ⟨s1, f, h1, h⟩ := px_inr h
    obtain ⟨j, -, h1⟩ := at_p_inr h1
    obtain ⟨kd1, g1, w1⟩ := hrec _ _ _ _ _ _ hG h1
    obtain ⟨s2, g, h2, h⟩ := px_inr h
    obtain ⟨j2, -, h2⟩ := at_p_inr h2
    obtain ⟨kd2, g2, w2⟩ := hrec _ _ _ _ _ _ (hG.go g1) h2
    obtain ⟨g3, w3, -⟩ := p_new_go g2.2.1 lv 0 false
    obtain ⟨s4, u4, h4, h⟩ := px_inr h
    obtain ⟨kd4, g4⟩ := p_meet_go g3.2.1 ((g2.trans g3).wf w1) (y := .sub g (.var s2.1.1)) ⟨g3.wf w2, w3⟩ h4
    cases h
    exact ⟨kd4, ((g1.trans g2).trans g3).trans g4, g4.wf w3⟩
  rw [if_neg hk3] at h
  by_cases hk4 : r.1 = 4
  · rw [if_pos hk4] at h
    obtain ⟨s1, b, h1, h⟩ := px_inr h
    obtain ⟨j, -, h1⟩ := at_p_inr h1
    obtain ⟨kd1, g1, w1⟩ := hrec _ _ _ _ _ _ hG h1
    obtain ⟨j2, -, h2⟩ := at_p_inr h
    have g2 := p_gen_go g1.2.1 lv t b
    obtain ⟨kd3, g3, w3⟩ := hrec _ _ _ _ _ _ ((hG.go (s' := p_gen s1 lv t b) (g1.trans g2)).cons (e := (nN r.2.1, b, true)) (g2.wf w1)) h2
    exact ⟨kd3, (g1.trans g2).trans g3, w3⟩
  rw [if_neg hk4] at h
  by_cases hk5 : r.1 = 5
  · rw [if_pos hk5] at h
    obtain ⟨g0, w0', -⟩ := p_new_go hG.1 (lv + 1) 0 false
    obtain ⟨s1, b, h1, h⟩ := px_inr h
    obtain ⟨j, -, h1⟩ := at_p_inr h1
    obtain ⟨kd1, g1, w1⟩ := hrec _ _ _ _ _ _ ((hG.go g0).cons (e := (nN r.2.1, .var s.1.1, false)) w0') h1
    obtain ⟨s2, u2, h2, h⟩ := px_inr h
    obtain ⟨kd2, g2⟩ := p_meet_go g1.2.1 w1 (g1.wf w0') h2
    obtain ⟨j2, -, h3⟩ := at_p_inr h
    have g3 := p_gen_go g2.2.1 lv t b
    have g0123 := ((g0.trans g1).trans g2).trans g3
    obtain ⟨kd4, g4, w4⟩ := hrec _ _ _ _ _ _ ((hG.go (s' := p_gen s2 lv t b) g0123).cons (e := (nN r.2.1, b, true)) ((g2.trans g3).wf w1)) h3
    exact ⟨kd4, g0123.trans g4, w4⟩
  rw [if_neg hk5] at h
  by_cases hk6 : r.1 = 6
  · rw [if_pos hk6] at h
    cases h; exact ⟨kd, uGo.rf hG.1, by simp only [uap, uwf]⟩
  rw [if_neg hk6] at h
  by_cases hk7 : r.1 = 7
  · rw [if_pos hk7] at h
    have h7 := hk7
    obtain ⟨b1, b2⟩ := p_lb_bit hT hr (Or.inl h7)
    obtain ⟨g0, w0', l0⟩ := p_new_go hG.1 lv (1 <<< (r.2.1 &&& 31)) true
    obtain ⟨s1, f, h1, h⟩ := px_inr h
    obtain ⟨j, -, h1⟩ := at_p_inr h1
    obtain ⟨kd1, g1, w1⟩ := hrec _ _ _ _ _ _ (hG.go g0) h1
    obtain ⟨s2, w, h2, h⟩ := px_inr h
    obtain ⟨j2, -, h2⟩ := at_p_inr h2
    obtain ⟨kd2, g2, w2⟩ := hrec _ _ _ _ _ _ (hG.go (g0.trans g1)) h2
    obtain ⟨s3, u3, h3, h⟩ := px_inr h
    obtain ⟨kd3, g3⟩ := p_meet_go g2.2.1 w2 (y := .pow (.var s.1.1) 0) ((g1.trans g2).wf (m := true) w0') h3
    cases h
    exact ⟨kd3, ((g0.trans g1).trans g2).trans g3, cell_wf ((g1.trans g2).trans g3) (Nat.lt_succ_self _) (if_pos rfl) b1 (by rw [l0]; exact b2) ((g2.trans g3).wf w1)⟩
  rw [if_neg hk7] at h
  by_cases hk8 : r.1 = 8 ∨ r.1 = 9
  · rw [if_pos hk8] at h
    have h89 := hk8
    obtain ⟨b1, b2⟩ := p_lb_bit hT hr (h89.elim (fun h => Or.inr (Or.inl h)) (fun h => Or.inr (Or.inr (Or.inl h))))
    obtain ⟨g0, w0', l0⟩ := p_new_go hG.1 lv (1 <<< (r.2.1 &&& 31)) true
    obtain ⟨s1, f, h1, h⟩ := px_inr h
    obtain ⟨j, -, h1⟩ := at_p_inr h1
    obtain ⟨kd1, g1, w1⟩ := hrec _ _ _ _ _ _ (hG.go g0) h1
    obtain ⟨g2, w2, -⟩ := p_new_go g1.2.1 lv 0 false
    obtain ⟨s3, u3, h3, h⟩ := px_inr h
    obtain ⟨kd3, g3⟩ := p_meet_go g2.2.1 (g2.wf w1) (y := .pow (.add (.pow (.var s1.1.1) (nN r.2.1)) (.var s.1.1)) 0) (cell_wf (g1.trans g2) (Nat.lt_succ_self _) (if_pos rfl) b1 (by rw [l0]; exact b2) w2) h3
    cases h
    refine ⟨kd3, ((g0.trans g1).trans g2).trans g3, ?_⟩
    dsimp only
    split
    · exact g3.wf w2
    · exact ((g1.trans g2).trans g3).wf (m := true) w0'
  rw [if_neg hk8] at h
  by_cases hk9 : r.1 = 10
  · rw [if_pos hk9] at h
    have h10 := hk9
    obtain ⟨b1, b2⟩ := p_lb_bit hT hr (Or.inr (Or.inr (Or.inr (Or.inl h10))))
    obtain ⟨g0, w0', l0⟩ := p_new_go hG.1 lv (1 <<< (r.2.1 &&& 31)) true
    obtain ⟨s1, f, h1, h⟩ := px_inr h
    obtain ⟨j, -, h1⟩ := at_p_inr h1
    obtain ⟨kd1, g1, w1⟩ := hrec _ _ _ _ _ _ (hG.go g0) h1
    cases h
    exact ⟨kd1, g0.trans g1, cell_wf g1 (Nat.lt_succ_self _) (if_pos rfl) b1 (by rw [l0]; exact b2) w1⟩
  rw [if_neg hk9] at h
  by_cases hk10 : r.1 = 11
  · rw [if_pos hk10] at h
    obtain ⟨s1, m, h1, h⟩ := px_inr h
    obtain ⟨j, -, h1⟩ := at_p_inr h1
    obtain ⟨kd1, g1, w1⟩ := hrec _ _ _ _ _ _ hG h1
    obtain ⟨j2, -, h2⟩ := at_p_inr h
    obtain ⟨kd2, g2, w2⟩ := p_match_go hT (fun t G s r kd => hrec t G lv s r kd) (hG.go g1) w1 h2
    exact ⟨kd2, g1.trans g2, w2⟩
  rw [if_neg hk10] at h
  by_cases hk11 : r.1 = 12
  · rw [if_pos hk11] at h
    obtain ⟨s1, f, h1, h⟩ := px_inr h
    obtain ⟨j, -, h1⟩ := at_p_inr h1
    obtain ⟨kd1, g1, w1⟩ := hrec _ _ _ _ _ _ hG h1
    obtain ⟨s2, u2, h2, h⟩ := px_inr h
    obtain ⟨kd2, g2⟩ := p_meet_go g1.2.1 w1 (w0 _ _) h2
    obtain ⟨s3, x, h3, h⟩ := px_inr h
    obtain ⟨j3, -, h3⟩ := at_p_inr h3
    obtain ⟨kd3, g3, w3⟩ := hrec _ _ _ _ _ _ (hG.go (g1.trans g2)) h3
    obtain ⟨s4, y, h4, h⟩ := px_inr h
    obtain ⟨j4, -, h4⟩ := at_p_inr h4
    obtain ⟨kd4, g4, w4⟩ := hrec _ _ _ _ _ _ (hG.go ((g1.trans g2).trans g3)) h4
    obtain ⟨s5, u5, h5, h⟩ := px_inr h
    obtain ⟨kd5, g5⟩ := p_meet_go g4.2.1 w4 (g4.wf w3) h5
    cases h
    exact ⟨kd5, (((g1.trans g2).trans g3).trans g4).trans g5, (g4.trans g5).wf w3⟩
  rw [if_neg hk11] at h
  by_cases hk12 : r.1 = 13
  · rw [if_pos hk12] at h
    obtain ⟨s1, x, h1, h⟩ := px_inr h
    obtain ⟨j, -, h1⟩ := at_p_inr h1
    obtain ⟨kd1, g1, w1⟩ := hrec _ _ _ _ _ _ hG h1
    obtain ⟨s2, y, h2, h⟩ := px_inr h
    obtain ⟨j2, -, h2⟩ := at_p_inr h2
    obtain ⟨kd2, g2, w2⟩ := hrec _ _ _ _ _ _ (hG.go g1) h2
    obtain ⟨s3, u3, h3, h⟩ := px_inr h
    obtain ⟨kd3, g3⟩ := p_meet_go g2.2.1 (g2.wf w1) (w0 _ _) h3
    obtain ⟨s4, u4, h4, h⟩ := px_inr h
    obtain ⟨kd4, g4⟩ := p_meet_go g3.2.1 (g3.wf w2) (w0 _ _) h4
    cases h
    exact ⟨kd4, ((g1.trans g2).trans g3).trans g4, w0 _ _⟩
  rw [if_neg hk12] at h
  by_cases hk13 : r.1 = 14
  · rw [if_pos hk13] at h
    obtain ⟨s1, x, h1, h⟩ := px_inr h
    obtain ⟨j, -, h1⟩ := at_p_inr h1
    obtain ⟨kd1, g1, w1⟩ := hrec _ _ _ _ _ _ hG h1
    obtain ⟨s2, y, h2, h⟩ := px_inr h
    obtain ⟨j2, -, h2⟩ := at_p_inr h2
    obtain ⟨kd2, g2, w2⟩ := hrec _ _ _ _ _ _ (hG.go g1) h2
    obtain ⟨s3, u3, h3, h⟩ := px_inr h
    obtain ⟨kd3, g3⟩ := p_meet_go g2.2.1 w2 (g2.wf w1) h3
    obtain ⟨s4, u4, h4, h⟩ := px_inr h
    have g4 := p_like_go g3.2.1 h4
    cases h
    exact ⟨kd3, ((g1.trans g2).trans g3).trans g4, w0 _ _⟩
  rw [if_neg hk13] at h
  cases h
/-- WHAT IS FOUND IS GOOD: the state, and the type -/
theorem pF_good {T : List pt_R} (hT : pt_lb T) : ∀ n : Nat, p_snd (pF T n)
  | 0 => fun _ _ _ _ _ _ _ h => by cases h
  | n + 1 => fun t G lv s res kd hG h => by
    unfold pF at h
    split at h
    · cases h
    · rename_i r hr
      exact p_step_go hT (pF_good hT n) hr hG h
