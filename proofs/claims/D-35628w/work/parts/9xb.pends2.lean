/-! ===== finding ends: whole ===== -/
set_option maxRecDepth 100000
/-- a part that is older, and none of cases -/
def pt_nc (T : List pt_R) (k j : Nat) : Prop := j < k ∧ ∃ r, T[j]? = some r ∧ r.1 ≠ 15 ∧ r.1 ≠ 16 ∧ r.1 ≠ 17
/-- the parts that terms have -/
def pt_sh (T : List pt_R) : Prop := T.length ≤ 120 ∧ ∀ (k : Nat) (r : pt_R), T[k]? = some r →
  ((r.1 = 2 ∨ r.1 = 8 ∨ r.1 = 9 ∨ r.1 = 10 ∨ r.1 = 16) → ∃ a, r.2.2.2.1 = [a] ∧ pt_nc T k a) ∧
  ((r.1 = 3 ∨ r.1 = 4 ∨ r.1 = 5 ∨ r.1 = 7 ∨ r.1 = 13 ∨ r.1 = 14) → ∃ a b, r.2.2.2.1 = [a, b] ∧ pt_nc T k a ∧ pt_nc T k b) ∧
  (r.1 = 12 → ∃ a b c, r.2.2.2.1 = [a, b, c] ∧ pt_nc T k a ∧ pt_nc T k b ∧ pt_nc T k c) ∧
  ((r.1 = 11 ∨ r.1 = 17) → ∃ a b, r.2.2.2.1 = [a, b] ∧ pt_nc T k a ∧ b < k ∧ ∃ rb, T[b]? = some rb ∧ (rb.1 = 15 ∨ rb.1 = 16 ∨ rb.1 = 17)) ∧
  (r.1 = 0 ∨ r.1 = 1 ∨ r.1 = 2 ∨ r.1 = 3 ∨ r.1 = 4 ∨ r.1 = 5 ∨ r.1 = 6 ∨ r.1 = 7 ∨ r.1 = 8 ∨ r.1 = 9 ∨ r.1 = 10 ∨ r.1 = 11 ∨ r.1 = 12 ∨ r.1 = 13 ∨ r.1 = 14 ∨ r.1 = 15 ∨ r.1 = 16 ∨ r.1 = 17)
theorem p_cases_en {T : List pt_R} (hT : pt_sh T) : ∀ (f t : Nat) (ls : List Nat), t < f → (∃ r, T[t]? = some r ∧ (r.1 = 15 ∨ r.1 = 16 ∨ r.1 = 17)) → ∃ x, p_cases T f t ls = some x ∧ ∀ cs e, x = .inr (cs, e) → (∀ c ∈ cs, pt_nc T t c.2.2.1) ∧ e ≤ t ∧ ∃ re, T[e]? = some re ∧ (re.1 = 15 ∨ re.1 = 16)
  | 0, t, ls, h, _ => absurd h (Nat.not_lt_zero _)
  | f + 1, t, ls, h, ⟨r, hr, hk⟩ => by
    unfold p_cases
    rw [hr]
    dsimp only
    by_cases h17 : r.1 = 17
    · rw [if_pos h17]
      by_cases hm : nN r.2.1 ∈ ls
      · rw [if_pos hm]; exact ⟨_, rfl, fun cs e h9 => by cases h9⟩
      · rw [if_neg hm]
        obtain ⟨a, b, hp, ha, hb, hrb⟩ := (hT.2 t r hr).2.2.2.1 (Or.inr h17)
        rw [hp]
        obtain ⟨x, hx, h2⟩ := p_cases_en hT f b (ls ++ [nN r.2.1]) (by omega) hrb
        show ∃ x, (match p_cases T f b (ls ++ [nN r.2.1]) with
          | some (.inr (cs, e)) => some (.inr ((nN r.2.1, nN r.2.2.1, a, t) :: cs, e))
          | x => x) = some x ∧ _
        rw [hx]
        cases x with
        | inl z => exact ⟨_, rfl, fun cs e h9 => by cases h9⟩
        | inr z =>
          refine ⟨_, rfl, fun cs e h9 => ?_⟩
          simp only [Sum.inr.injEq, Prod.mk.injEq] at h9
          obtain ⟨rfl, rfl⟩ := h9
          obtain ⟨h3, h4, h5⟩ := h2 z.1 z.2 rfl
          refine ⟨fun c hc => ?_, by omega, h5⟩
          rcases List.mem_cons.1 hc with rfl | hc
          · exact ha
          · obtain ⟨h6, h7⟩ := h3 c hc; exact ⟨by omega, h7⟩
    · rw [if_neg h17]
      refine ⟨_, rfl, fun cs e h9 => ?_⟩
      simp only [Sum.inr.injEq, Prod.mk.injEq] at h9
      obtain ⟨rfl, rfl⟩ := h9
      exact ⟨fun c hc => absurd hc List.not_mem_nil, Nat.le_refl _, r, hr, by rcases hk with h | h | h; exact Or.inl h; exact Or.inr h; exact absurd h h17⟩
/-- a search ends for the terms below k -/
def pAll (T : List pt_R) (k : Nat) : Prop := ∀ (t : Nat) (G : List p_E) (lv : Int32) (s : pS) (kd : Nat → Bool), pt_nc T k t → pGd s kd G → pEn fun n => pF T n t G lv s
theorem pF_mo2 (T : List pt_R) (t : Nat) (G : List p_E) (lv : Int32) (s : pS) : pMo fun n => pF T n t G lv s := fun n r h => pF_mo T n t G lv s r h
theorem p_bods_en {T : List pt_R} (hT : pt_lb T) {k : Nat} (ih : pAll T k) {G : List p_E} {lv : Int32} {to : Nat} : ∀ (cs : List (Nat × Nat × Nat × Nat)) (a : Nat) (s : pS) (kd : Nat → Bool), (∀ c ∈ cs, pt_nc T k c.2.2.1) → pGd s kd G → (∀ i, i < cs.length → uwf (uG s.1 kd) false (uap s.1.2.1 (.var (a + i)))) → uwf (uG s.1 kd) false (uap s.1.2.1 (.var to)) →
    pEn fun n => p_bods (fun b G s => pF T n b G lv s) n G to a cs s
  | [], a, s, kd, _, _, _, _ => ⟨0, _, rfl⟩
  | c :: cs, a, s, kd, hc, hG, hv, hto => by
    refine px_en (β := Unit) (x := fun n => pF T n c.2.2.1 ((c.2.1, .var a, false) :: G) lv s) (f := fun n s1 b => px (p_meet n c.2.2.2 s1 b (.var to)) fun s2 _ => p_bods (fun b G s => pF T n b G lv s) n G to (a + 1) cs s2) (pF_mo2 T _ _ _ _) (ih _ _ _ _ kd (hc c List.mem_cons_self) (hG.cons (hv 0 (by simp))))
      (fun s1 b => px_mo (β := Unit) (f := fun n s2 _ => p_bods (fun b G s => pF T n b G lv s) n G to (a + 1) cs s2) (p_meet_mo _ _ _ _) (fun s2 _ => p_bods_mo (rec := fun n b G s => pF T n b G lv s) (fun t G s => pF_mo2 T t G lv s) _ _ _)) (fun n s1 b h1 => ?_)
    obtain ⟨kd1, g1, w1⟩ := pF_good hT n _ _ _ _ _ kd (hG.cons (e := (c.2.1, .var a, false)) (hv 0 (by simp))) h1
    refine px_en (β := Unit) (x := fun n => p_meet n c.2.2.2 s1 b (.var to)) (f := fun n s2 _ => p_bods (fun b G s => pF T n b G lv s) n G to (a + 1) cs s2) (p_meet_mo _ _ _ _) (p_meet_en g1.2.1 w1 (g1.wf hto)) (fun s2 _ => p_bods_mo (rec := fun n b G s => pF T n b G lv s) (fun t G s => pF_mo2 T t G lv s) _ _ _) (fun n2 s2 u2 h2 => ?_)
    obtain ⟨kd2, g2⟩ := p_meet_go g1.2.1 w1 (g1.wf hto) h2
    have g12 := g1.trans g2
    exact p_bods_en hT ih cs (a + 1) s2 kd2 (fun x hx => hc x (List.mem_cons_of_mem _ hx)) (hG.go g12) (fun i hi => by
      have := hv (i + 1) (by rw [List.length_cons]; omega)
      rw [show a + 1 + i = a + (i + 1) from by omega]; exact g12.wf this) (g12.wf hto)
theorem p_match_en {T : List pt_R} (hT : pt_lb T) (hS : pt_sh T) {k : Nat} (ih : pAll T k) {t j : Nat} {G : List p_E} {lv : Int32} {s : pS} {m : ev} {kd : Nat → Bool} (hj : j < k ∧ ∃ r, T[j]? = some r ∧ (r.1 = 15 ∨ r.1 = 16 ∨ r.1 = 17)) (hG : pGd s kd G) (hm : uwf (uG s.1 kd) false (uap s.1.2.1 m)) : pEn fun n => p_match T n (fun b G s => pF T n b G lv s) t j G lv s m := by
  have hj120 : j < 121 := by
    obtain ⟨r, hr, -⟩ := hj.2
    rcases Nat.lt_or_ge j T.length with h | h
    · have := hS.1; omega
    · rw [List.getElem?_eq_none h] at hr; cases hr
  obtain ⟨x, hx, hx2⟩ := p_cases_en hS 121 j [] hj120 hj.2
  unfold p_match
  rw [hx]
  cases x with
  | inl u => exact ⟨0, _, rfl⟩
  | inr z =>
    obtain ⟨cs, e⟩ := z
    obtain ⟨hcs, hej, re, hre, hrk⟩ := hx2 cs e rfl
    obtain ⟨hnd, hlb⟩ := p_cases_ok hT _ _ _ _ _ hx
    obtain ⟨kd1, g1, n1, e1, k1⟩ := p_news_go cs.length s kd lv hG.1
    have hcs' : ∀ c ∈ cs, pt_nc T k c.2.2.1 := fun c hc => ⟨Nat.lt_trans (hcs c hc).1 hj.1, (hcs c hc).2⟩
    have hmo : ∀ (G : List p_E) (to a : Nat) (s : pS), pMo fun n => p_bods (fun b G s => pF T n b G lv s) n G to a cs s := fun G to a s => p_bods_mo (rec := fun n b G s => pF T n b G lv s) (fun t G s => pF_mo2 T t G lv s) _ _ _
    dsimp only
    rw [hre]
    dsimp only
    by_cases h16 : re.1 = 16
    · simp only [if_pos h16]
      obtain ⟨b0, hb0, hb1⟩ := (hS.2 e re hre).1 (Or.inr (Or.inr (Or.inr (Or.inr h16))))
      have hb2 : pt_nc T k b0 := ⟨by have := hb1.1; omega, hb1.2⟩
      obtain ⟨g2, w2, l2⟩ := p_new_go g1.2.1 lv (p_lab cs) true
      have g12 := g1.trans g2
      have hlt : ∀ i, i < cs.length → s.1.1 + i < (p_new (p_news s lv cs.length) lv (p_lab cs)).1.1 ∧ (if s.1.1 + i = (p_news s lv cs.length).1.1 then true else kd1 (s.1.1 + i)) = false := fun i hi => by
        refine ⟨by show _ < (p_news s lv cs.length).1.1 + 1; rw [n1]; omega, ?_⟩
        rw [if_neg (by rw [n1]; omega)]; exact k1 i hi
      have wrow : uwf (uG (p_new (p_news s lv cs.length) lv (p_lab cs)).1 (fun u => if u = (p_news s lv cs.length).1.1 then true else kd1 u)) true (p_row s.1.1 (.var (s.1.1 + cs.length)) cs) := by
        refine p_row_wf (by rw [← n1]; exact ⟨Nat.lt_succ_self _, if_pos rfl⟩) (fun _ => rfl) _ _ hlt hnd (fun c hc => ⟨(hlb c hc).2, fun u hu => ?_⟩)
        simp only [uend, Option.some.injEq] at hu
        subst hu
        rw [← n1]
        show uhs ((p_new (p_news s lv cs.length) lv (p_lab cs)).1.2.2.2.1 (p_news s lv cs.length).1.1) c.1 = true
        rw [l2]; unfold p_lab
        rw [p_lab_bit _ (hlb c hc).2 cs 0 (fun x hx => (hlb x hx).2)]
        simp only [Bool.or_eq_true, decide_eq_true_eq]
        exact Or.inr (List.mem_map_of_mem hc)
      refine px_en (β := ev) (x := fun n => p_meet n t (p_new (p_news s lv cs.length) lv (p_lab cs)) m (.pow (p_row s.1.1 (.var (s.1.1 + cs.length)) cs) 1))
        (f := fun n s1 _ => px (p_bods (fun b G s => pF T n b G lv s) n G s1.1.1 s.1.1 cs (p_new s1 lv 0)) fun s2 _ => px (at_p re.2.2.2.1 0 fun b => pF T n b ((nN re.2.1, .pow (.var (s.1.1 + cs.length)) 1, false) :: G) lv s2) fun s3 b => px (p_meet n e s3 b (.var s1.1.1)) fun s4 _ => some (.inr (s4, .var s1.1.1)))
        (p_meet_mo _ _ _ _) (p_meet_en g2.2.1 (g12.wf hm) (g2.2.1.wfap (m := true) wrow)) (fun s1 _ => px_mo (β := ev) (f := fun n s2 _ => px (at_p re.2.2.2.1 0 fun b => pF T n b ((nN re.2.1, .pow (.var (s.1.1 + cs.length)) 1, false) :: G) lv s2) fun s3 b => px (p_meet n e s3 b (.var s1.1.1)) fun s4 _ => some (.inr (s4, .var s1.1.1))) (hmo _ _ _ _)
            (fun s2 _ => px_mo (β := ev) (f := fun n s3 b => px (p_meet n e s3 b (.var s1.1.1)) fun s4 _ => some (.inr (s4, .var s1.1.1))) (at_p_mo (α := ev) (f := fun n b => pF T n b ((nN re.2.1, .pow (.var (s.1.1 + cs.length)) 1, false) :: G) lv s2) (fun j => pF_mo2 T _ _ _ _))
              (fun s3 b => px_mo (β := ev) (f := fun n s4 _ => some (.inr (s4, .var s1.1.1))) (p_meet_mo _ _ _ _) (fun s4 _ => pMo.const _)))) (fun n3 s3 u3 h3 => ?_)
      obtain ⟨kd3, g3⟩ := p_meet_go g2.2.1 (g12.wf hm) (y := .pow (p_row s.1.1 (.var (s.1.1 + cs.length)) cs) 1) (g2.2.1.wfap (m := true) wrow) h3
      obtain ⟨g4, w4, -⟩ := p_new_go g3.2.1 lv 0 false
      have g1234 := (g12.trans g3).trans g4
      have wv : ∀ i, i < cs.length → uwf (uG (p_new s3 lv 0).1 (fun u => if u = s3.1.1 then false else kd3 u)) false (uap (p_new s3 lv 0).1.2.1 (.var (s.1.1 + i))) := fun i hi => (g3.trans g4).wf (g2.2.1.wfap (m := false) ⟨(hlt i hi).1, (hlt i hi).2⟩)
      refine px_en (β := ev) (x := fun n => p_bods (fun b G s => pF T n b G lv s) n G s3.1.1 s.1.1 cs (p_new s3 lv 0))
        (f := fun n s2 _ => px (at_p re.2.2.2.1 0 fun b => pF T n b ((nN re.2.1, .pow (.var (s.1.1 + cs.length)) 1, false) :: G) lv s2) fun s5 b => px (p_meet n e s5 b (.var s3.1.1)) fun s4 _ => some (.inr (s4, .var s3.1.1))) (hmo _ _ _ _) (p_bods_en hT ih cs s.1.1 _ _ hcs' (hG.go g1234) wv w4)
        (fun s2 _ => px_mo (β := ev) (f := fun n s5 b => px (p_meet n e s5 b (.var s3.1.1)) fun s4 _ => some (.inr (s4, .var s3.1.1))) (at_p_mo (α := ev) (f := fun n b => pF T n b ((nN re.2.1, .pow (.var (s.1.1 + cs.length)) 1, false) :: G) lv s2) (fun j => pF_mo2 T _ _ _ _))
              (fun s5 b => px_mo (β := ev) (f := fun n s4 _ => some (.inr (s4, .var s3.1.1))) (p_meet_mo _ _ _ _) (fun s4 _ => pMo.const _))) (fun n5 s5 u5 h5 => ?_)
      obtain ⟨kd5, g5⟩ := p_bods_go (rec := fun b G s => pF T n5 b G lv s) (fun t G s r kd => pF_good hT n5 t G lv s r kd) cs s.1.1 (p_new s3 lv 0) _ (s5, u5) (hG.go g1234) wv w4 h5
      have wr : uwf (uG s5.1 kd5) false (uap s5.1.2.1 (.pow (.var (s.1.1 + cs.length)) 1)) := by
        have w9 : uwf (uG (p_new (p_news s lv cs.length) lv (p_lab cs)).1 (fun u => if u = (p_news s lv cs.length).1.1 then true else kd1 u)) false (uap (p_new (p_news s lv cs.length) lv (p_lab cs)).1.2.1 (.pow (.var (s.1.1 + cs.length)) 1)) := by rw [← n1]; exact w2
        exact ((g3.trans g4).trans g5).wf w9
      have hG5 := (hG.go (g1234.trans g5)).cons (e := (nN re.2.1, .pow (.var (s.1.1 + cs.length)) 1, false)) wr
      refine px_en (β := ev) (x := fun n => at_p re.2.2.2.1 0 fun b => pF T n b ((nN re.2.1, .pow (.var (s.1.1 + cs.length)) 1, false) :: G) lv s5) (f := fun n s6 b => px (p_meet n e s6 b (.var s3.1.1)) fun s4 _ => some (.inr (s4, .var s3.1.1))) (at_p_mo (α := ev) (f := fun n b => pF T n b ((nN re.2.1, .pow (.var (s.1.1 + cs.length)) 1, false) :: G) lv s5) (fun j => pF_mo2 T _ _ _ _))
        (at_p_en (f := fun n b => pF T n b ((nN re.2.1, .pow (.var (s.1.1 + cs.length)) 1, false) :: G) lv s5) (by rw [hb0]; rfl) (ih _ _ _ _ kd5 hb2 hG5)) (fun s6 b => px_mo (β := ev) (f := fun n s4 _ => some (.inr (s4, .var s3.1.1))) (p_meet_mo _ _ _ _) (fun s4 _ => pMo.const _)) (fun n6 s6 b6 h6 => ?_)
      obtain ⟨j6, -, h6⟩ := at_p_inr h6
      obtain ⟨kd6, g6, w6⟩ := pF_good hT n6 _ _ _ _ _ kd5 hG5 h6
      exact px_en (β := ev) (f := fun n s4 _ => some (.inr (s4, .var s3.1.1))) (p_meet_mo _ _ _ _) (p_meet_en g6.2.1 w6 ((g5.trans g6).wf w4)) (fun s4 _ => pMo.const _) (fun _ _ _ _ => ⟨0, _, rfl⟩)
    · simp only [if_neg h16]
      have wrow : uwf (uG (p_news s lv cs.length).1 kd1) true (p_row s.1.1 (.natCast 0) cs) := by
        refine p_row_wf (en := .natCast 0) (by simp only [uwf]) (fun _ => rfl) _ _ (fun i hi => ⟨by show _ < (p_news s lv cs.length).1.1; rw [n1]; omega, k1 i hi⟩) hnd (fun c hc => ⟨(hlb c hc).2, fun u hu => by cases hu⟩)
      refine px_en (β := ev) (x := fun n => p_meet n t (p_news s lv cs.length) m (.pow (p_row s.1.1 (.natCast 0) cs) 1)) (f := fun n s1 _ => px (p_bods (fun b G s => pF T n b G lv s) n G s1.1.1 s.1.1 cs (p_new s1 lv 0)) fun s2 _ => some (.inr (s2, .var s1.1.1)))
        (p_meet_mo _ _ _ _) (p_meet_en g1.2.1 (g1.wf hm) (g1.2.1.wfap (m := true) wrow)) (fun s1 _ => px_mo (β := ev) (f := fun n s2 _ => some (.inr (s2, .var s1.1.1))) (hmo _ _ _ _) (fun s2 _ => pMo.const _)) (fun n3 s3 u3 h3 => ?_)
      obtain ⟨kd3, g3⟩ := p_meet_go g1.2.1 (g1.wf hm) (y := .pow (p_row s.1.1 (.natCast 0) cs) 1) (g1.2.1.wfap (m := true) wrow) h3
      obtain ⟨g4, w4, -⟩ := p_new_go g3.2.1 lv 0 false
      have g134 := (g1.trans g3).trans g4
      exact px_en (β := ev) (f := fun n s2 _ => some (.inr (s2, .var s3.1.1))) (hmo _ _ _ _) (p_bods_en hT ih cs s.1.1 _ _ hcs' (hG.go g134) (fun i hi => (g3.trans g4).wf (g1.2.1.wfap (m := false) ⟨by show _ < (p_news s lv cs.length).1.1; rw [n1]; omega, k1 i hi⟩)) w4) (fun s2 _ => pMo.const _) (fun _ _ _ _ => ⟨0, _, rfl⟩)
