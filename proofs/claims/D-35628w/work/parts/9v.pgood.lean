/-! ===== what is found, is as it should be ===== -/
set_option maxRecDepth 100000
def p_snd (rec : Nat → List p_E → Int32 → pS → pX ev) : Prop := ∀ (t : Nat) (G : List p_E) (lv : Int32) (s : pS) (r : pS × ev) (kd : Nat → Bool), pGd s kd G → rec t G lv s = some (.inr r) → ∃ kd', uGo s.1 kd r.1.1 kd' ∧ uwf (uG r.1.1 kd') false (uap r.1.1.2.1 r.2)
/-- a row's variable that lacks l, later -/
theorem rest_lack {S S' : ts} {kd kd' : Nat → Bool} (h : uGo S kd S' kd') {a l : Nat} (ha : a < S.1) (hk : kd a = true) (hl : l < 10) (hx : uhs (S.2.2.2.1 a) l = true) : uwf (uG S' kd') true (uap S'.2.1 (.var a)) ∧ uget (uap S'.2.1 (.var a)) l = none ∧ ∀ u, uend (uap S'.2.1 (.var a)) = some u → uhs (S'.2.2.2.1 u) l = true := by
  have e1 : kd' a = kd a := (h.1.2 a ha).1
  have e2 : S'.2.2.2.1 a = S.2.2.2.1 a := (h.1.2 a ha).2
  have ha' : a < S'.1 := Nat.lt_of_lt_of_le ha h.1.1
  obtain ⟨k1, k2⟩ := h.2.1.2.1 a ha'
  have k3 : kd' a = true := e1.trans hk
  have k1 : uwf (uG S' kd') true (S'.2.1 a) := by have := k1; rw [show (uG S' kd').2.1 a = true from k3] at this; exact this
  exact ⟨k1, k2 k3 l hl (by show uhs (S'.2.2.2.1 a) l = true; rw [e2]; exact hx)⟩
/-- a cell ahead of such a variable -/
theorem cell_wf {S S' : ts} {kd kd' : Nat → Bool} (h : uGo S kd S' kd') {a l : Nat} {f : ev} (ha : a < S.1) (hk : kd a = true) (hl : l < 10) (hx : uhs (S.2.2.2.1 a) l = true) (hf : uwf (uG S' kd') false (uap S'.2.1 f)) : uwf (uG S' kd') true (uap S'.2.1 (.add (.pow f l) (.var a))) := by
  obtain ⟨h1, h2, h3⟩ := rest_lack h ha hk hl hx
  exact uwf_ins hl hf _ h1 h2 h3
theorem usg.wfap {S : ts} {kd : Nat → Bool} (h : usg S kd) {m : Bool} {t : ev} (ht : uwf (uG S kd) m t) : uwf (uG S kd) m (uap S.2.1 t) := uwf.ap h.2.1 ht
theorem p_cases_ok {T : List pt_R} (hT : pt_lb T) : ∀ (f t : Nat) (ls : List Nat) (cs : List (Nat × Nat × Nat × Nat)) (e : Nat), p_cases T f t ls = some (.inr (cs, e)) → (cs.map Prod.fst).Nodup ∧ ∀ c ∈ cs, c.1 ∉ ls ∧ c.1 < 10
  | 0, t, ls, cs, e, h => by cases h
  | f + 1, t, ls, cs, e, h => by
    unfold p_cases at h
    split at h
    · cases h
    · rename_i r hr
      split at h
      · rename_i hk
        split at h
        · cases h
        · rename_i hn
          split at h
          · rename_i b nx hb hnx
            split at h
            · rename_i cs2 e2 h2
              simp only [Option.some.injEq, Sum.inr.injEq, Prod.mk.injEq] at h
              obtain ⟨rfl, rfl⟩ := h
              obtain ⟨h3, h4⟩ := p_cases_ok hT f nx _ cs2 e2 h2
              obtain ⟨l, hl, -, e9⟩ := hT t r hr (Or.inr (Or.inr (Or.inr (Or.inr hk))))
              refine ⟨List.nodup_cons.2 ⟨fun hm => ?_, h3⟩, fun c hc => ?_⟩
              · obtain ⟨c, hc, e3⟩ := List.mem_map.1 hm
                exact (h4 c hc).1 (by rw [e3]; exact List.mem_append_right _ (List.mem_singleton.2 rfl))
              · rcases List.mem_cons.1 hc with rfl | hc
                · exact ⟨hn, by show nN r.2.1 < 10; rw [e9]; exact hl⟩
                · exact ⟨fun h9 => (h4 c hc).1 (List.mem_append_left _ h9), (h4 c hc).2⟩
            · rename_i hno
              exact (hno _ _ h).elim
          · cases h
      · simp only [Option.some.injEq, Sum.inr.injEq, Prod.mk.injEq] at h
        obtain ⟨rfl, rfl⟩ := h
        exact ⟨List.nodup_nil, fun c hc => absurd hc List.not_mem_nil⟩
theorem p_lab_bit (l : Nat) (hl : l < 10) : ∀ (cs : List (Nat × Nat × Nat × Nat)) (b : Int32), (∀ c ∈ cs, c.1 < 10) → uhs (cs.foldl (fun b c => b ||| (1 <<< (nI c.1 &&& 31))) b) l = (uhs b l || decide (l ∈ cs.map Prod.fst))
  | [], b, _ => by simp
  | c :: cs, b, h => by
    rw [List.foldl_cons, p_lab_bit l hl cs _ (fun x hx => h x (List.mem_cons_of_mem _ hx)), uhs_or hl, uhs_one (h c List.mem_cons_self) hl, List.map_cons, Bool.or_assoc]
    congr 1
    rw [Bool.eq_iff_iff]
    simp only [Bool.or_eq_true, decide_eq_true_eq, List.mem_cons]
theorem p_row_end {en : ev} : ∀ (a : Nat) (cs : List (Nat × Nat × Nat × Nat)), uend (p_row a en cs) = uend en
  | a, [] => rfl
  | a, c :: cs => by simp only [p_row, uend]; exact p_row_end (a + 1) cs
theorem p_row_get {en : ev} {l : Nat} (he : uget en l = none) : ∀ (a : Nat) (cs : List (Nat × Nat × Nat × Nat)), l ∉ cs.map Prod.fst → uget (p_row a en cs) l = none
  | a, [], _ => he
  | a, c :: cs, h => by
    rw [List.map_cons, List.mem_cons, not_or] at h
    simp only [p_row, uget]
    rw [if_neg h.1]; exact p_row_get he (a + 1) cs h.2
theorem p_row_wf {g : ug} {en : ev} (he : uwf g true en) (hg : ∀ l, uget en l = none) : ∀ (a : Nat) (cs : List (Nat × Nat × Nat × Nat)), (∀ i, i < cs.length → a + i < g.1 ∧ g.2.1 (a + i) = false) → (cs.map Prod.fst).Nodup → (∀ c ∈ cs, c.1 < 10 ∧ ∀ u, uend en = some u → uhs (g.2.2 u) c.1 = true) → uwf g true (p_row a en cs)
  | a, [], _, _, _ => he
  | a, c :: cs, h1, h2, h3 => by
    rw [List.map_cons, List.nodup_cons] at h2
    obtain ⟨h4, h5⟩ := h3 c List.mem_cons_self
    simp only [p_row, uwf]
    refine ⟨h4, h1 0 (by simp), p_row_wf he hg (a + 1) cs (fun i hi => ?_) h2.2 (fun x hx => h3 x (List.mem_cons_of_mem _ hx)), p_row_get (hg _) _ _ h2.1, fun v hv => ?_⟩
    · have := h1 (i + 1) (by rw [List.length_cons]; omega)
      rw [show a + 1 + i = a + (i + 1) from by omega]; exact this
    · rw [p_row_end] at hv; exact h5 v hv
/-- k new type variables -/
theorem p_news_go : ∀ (k : Nat) (s : pS) (kd : Nat → Bool) (lv : Int32), usg s.1 kd → ∃ kd', uGo s.1 kd (p_news s lv k).1 kd' ∧ (p_news s lv k).1.1 = s.1.1 + k ∧ (p_news s lv k).1.2.1 = s.1.2.1 ∧ ∀ i, i < k → kd' (s.1.1 + i) = false
  | 0, s, kd, lv, h => ⟨kd, uGo.rf h, rfl, rfl, fun i hi => absurd hi (Nat.not_lt_zero _)⟩
  | k + 1, s, kd, lv, h => by
    obtain ⟨h1, -, -⟩ := p_new_go h lv 0 false
    obtain ⟨kd', h2, h3, h4, h5⟩ := p_news_go k (p_new s lv 0) _ lv h1.2.1
    have e1 : (p_new s lv 0).1.1 = s.1.1 + 1 := rfl
    refine ⟨kd', h1.trans h2, ?_, h4, fun i hi => ?_⟩
    · show (p_news (p_new s lv 0) lv k).1.1 = _; rw [h3, e1]; omega
    · cases i with
      | zero => rw [Nat.add_zero]; exact (h2.1.2 s.1.1 (Nat.lt_succ_self _)).1.trans (if_pos rfl)
      | succ i => have := h5 i (by omega); rw [e1] at this; rw [show s.1.1 + (i + 1) = s.1.1 + 1 + i from by omega]; exact this
theorem p_bods_go {rec : Nat → List p_E → pS → pX ev} (hrec : ∀ (t : Nat) (G : List p_E) (s : pS) (r : pS × ev) (kd : Nat → Bool), pGd s kd G → rec t G s = some (.inr r) → ∃ kd', uGo s.1 kd r.1.1 kd' ∧ uwf (uG r.1.1 kd') false (uap r.1.1.2.1 r.2)) {n : Nat} {G : List p_E} {to : Nat} :
    ∀ (cs : List (Nat × Nat × Nat × Nat)) (a : Nat) (s : pS) (kd : Nat → Bool) (r : pS × Unit), pGd s kd G → (∀ i, i < cs.length → uwf (uG s.1 kd) false (uap s.1.2.1 (.var (a + i)))) → uwf (uG s.1 kd) false (uap s.1.2.1 (.var to)) → p_bods rec n G to a cs s = some (.inr r) → ∃ kd', uGo s.1 kd r.1.1 kd'
  | [], a, s, kd, r, hG, _, _, h => by cases h; exact ⟨kd, uGo.rf hG.1⟩
  | c :: cs, a, s, kd, r, hG, hv, hto, h => by
    unfold p_bods at h
    obtain ⟨s1, b, h1, h⟩ := px_inr h
    obtain ⟨kd1, g1, w1⟩ := hrec _ _ _ _ kd (hG.cons (e := (c.2.1, .var a, false)) (hv 0 (by simp))) h1
    obtain ⟨s2, u2, h2, h⟩ := px_inr h
    obtain ⟨kd2, g2⟩ := p_meet_go g1.2.1 w1 (g1.wf hto) h2
    have g12 := g1.trans g2
    obtain ⟨kd3, g3⟩ := p_bods_go hrec cs (a + 1) s2 kd2 r (hG.go g12) (fun i hi => by
      have := hv (i + 1) (by rw [List.length_cons]; omega)
      rw [show a + 1 + i = a + (i + 1) from by omega]; exact g12.wf this) (g12.wf hto) h
    exact ⟨kd3, g12.trans g3⟩
theorem p_match_go {T : List pt_R} (hT : pt_lb T) {n : Nat} {rec : Nat → List p_E → pS → pX ev} (hrec : ∀ (t : Nat) (G : List p_E) (s : pS) (r : pS × ev) (kd : Nat → Bool), pGd s kd G → rec t G s = some (.inr r) → ∃ kd', uGo s.1 kd r.1.1 kd' ∧ uwf (uG r.1.1 kd') false (uap r.1.1.2.1 r.2))
    {t j : Nat} {G : List p_E} {lv : Int32} {s : pS} {m : ev} {kd : Nat → Bool} {r : pS × ev} (hG : pGd s kd G) (hm : uwf (uG s.1 kd) false (uap s.1.2.1 m)) (h : p_match T n rec t j G lv s m = some (.inr r)) : ∃ kd', uGo s.1 kd r.1.1 kd' ∧ uwf (uG r.1.1 kd') false (uap r.1.1.2.1 r.2) := by
  unfold p_match at h
  split at h
  · cases h
  · cases h
  · rename_i cs e hcs
    obtain ⟨hnd, hlb⟩ := p_cases_ok hT _ _ _ _ _ hcs
    obtain ⟨kd1, g1, n1, e1, k1⟩ := p_news_go cs.length s kd lv hG.1
    split at h
    · cases h
    · rename_i re hre
      split at h
      · rename_i h16
        obtain ⟨g2, w2, l2⟩ := p_new_go g1.2.1 lv (p_lab cs) true
        have g12 := g1.trans g2
        have hlt : ∀ i, i < cs.length → s.1.1 + i < (p_new (p_news s lv cs.length) lv (p_lab cs)).1.1 ∧ (if s.1.1 + i = (p_news s lv cs.length).1.1 then true else kd1 (s.1.1 + i)) = false := fun i hi => by
          refine ⟨by show _ < (p_news s lv cs.length).1.1 + 1; rw [n1]; omega, ?_⟩
          rw [if_neg (by rw [n1]; omega)]; exact k1 i hi
        have wrow : uwf (uG (p_new (p_news s lv cs.length) lv (p_lab cs)).1 (fun u => if u = (p_news s lv cs.length).1.1 then true else kd1 u)) true (p_row s.1.1 (.var (s.1.1 + cs.length)) cs) := by
          refine p_row_wf (by rw [← n1]; exact ⟨Nat.lt_succ_self _, if_pos rfl⟩) (fun _ => rfl) _ _ hlt hnd (fun c hc => ⟨(hlb c hc).2, fun u hu => ?_⟩)
          simp only [uend, Option.some.injEq] at hu
          subst hu
          rw [← n1]
          show uhs ((p_new (p_news s lv cs.length) lv (p_lab cs)).1.2.2.2.1 (p_news s lv cs.length).1.1) c.1 = true
          rw [l2]; unfold p_lab
          rw [p_lab_bit _ (hlb c hc).2 cs 0 (fun x hx => (hlb x hx).2)]
          simp only [Bool.or_eq_true, decide_eq_true_eq]
          exact Or.inr (List.mem_map_of_mem hc)
        obtain ⟨s3, u3, h3, h⟩ := px_inr h
        obtain ⟨kd3, g3⟩ := p_meet_go g2.2.1 (g12.wf hm) (y := .pow (p_row s.1.1 (.var (s.1.1 + cs.length)) cs) 1) (g2.2.1.wfap (m := true) wrow) h3
        obtain ⟨g4, w4, -⟩ := p_new_go g3.2.1 lv 0 false
        have g123 := g12.trans g3
        have g1234 := g123.trans g4
        have wv : ∀ i, i < cs.length → uwf (uG (p_new s3 lv 0).1 (fun u => if u = s3.1.1 then false else kd3 u)) false (uap (p_new s3 lv 0).1.2.1 (.var (s.1.1 + i))) := fun i hi => (g3.trans g4).wf (g2.2.1.wfap (m := false) ⟨(hlt i hi).1, (hlt i hi).2⟩)
        obtain ⟨s5, u5, h5, h⟩ := px_inr h
        obtain ⟨kd5, g5⟩ := p_bods_go hrec cs s.1.1 (p_new s3 lv 0) _ (s5, u5) (hG.go g1234) wv w4 h5
        have wr : uwf (uG s5.1 kd5) false (uap s5.1.2.1 (.pow (.var (s.1.1 + cs.length)) 1)) := by
          have w9 : uwf (uG (p_new (p_news s lv cs.length) lv (p_lab cs)).1 (fun u => if u = (p_news s lv cs.length).1.1 then true else kd1 u)) false (uap (p_new (p_news s lv cs.length) lv (p_lab cs)).1.2.1 (.pow (.var (s.1.1 + cs.length)) 1)) := by rw [← n1]; exact w2
          exact ((g3.trans g4).trans g5).wf w9
        obtain ⟨s6, b6, h6, h⟩ := px_inr h
        obtain ⟨j6, -, h6⟩ := at_p_inr h6
        obtain ⟨kd6, g6, w6⟩ := hrec _ _ _ _ kd5 ((hG.go (g1234.trans g5)).cons (e := (nN re.2.1, .pow (.var (s.1.1 + cs.length)) 1, false)) wr) h6
        obtain ⟨s7, u7, h7, h⟩ := px_inr h
        obtain ⟨kd7, g7⟩ := p_meet_go g6.2.1 w6 ((g5.trans g6).wf w4) h7
        cases h
        exact ⟨kd7, ((g1234.trans g5).trans g6).trans g7, ((g5.trans g6).trans g7).wf w4⟩
      · have wrow : uwf (uG (p_news s lv cs.length).1 kd1) true (p_row s.1.1 (.natCast 0) cs) := by
          refine p_row_wf (en := .natCast 0) (by simp only [uwf]) (fun _ => rfl) _ _ (fun i hi => ⟨by show _ < (p_news s lv cs.length).1.1; rw [n1]; omega, k1 i hi⟩) hnd (fun c hc => ⟨(hlb c hc).2, fun u hu => by cases hu⟩)
        obtain ⟨s3, u3, h3, h⟩ := px_inr h
        obtain ⟨kd3, g3⟩ := p_meet_go g1.2.1 (g1.wf hm) (y := .pow (p_row s.1.1 (.natCast 0) cs) 1) (g1.2.1.wfap (m := true) wrow) h3
        obtain ⟨g4, w4, -⟩ := p_new_go g3.2.1 lv 0 false
        have g134 := (g1.trans g3).trans g4
        obtain ⟨s5, u5, h5, h⟩ := px_inr h
        obtain ⟨kd5, g5⟩ := p_bods_go hrec cs s.1.1 (p_new s3 lv 0) _ (s5, u5) (hG.go g134) (fun i hi => (g3.trans g4).wf (g1.2.1.wfap (m := false) ⟨by show _ < (p_news s lv cs.length).1.1; rw [n1]; omega, k1 i hi⟩)) w4 h5
        cases h
        exact ⟨kd5, g134.trans g5, g5.wf w4⟩
theorem p_name_go {s : pS} {kd : Nat → Bool} {G : List p_E} (hG : pGd s kd G) (lv : Int32) {e : p_E} (he : e ∈ G) : ∃ kd', uGo s.1 kd (p_name s lv e).1.1 kd' ∧ uwf (uG (p_name s lv e).1.1 kd') false (uap (p_name s lv e).1.1.2.1 (p_name s lv e).2) := by
  have hw := hG.2 e he
  unfold p_name
  split
  · obtain ⟨g1, g2⟩ := hG.1.inst (gl := p_gl s.1 (uap s.1.2.1 e.2.1)) (fun g hg => List.mem_range.1 (List.mem_filter.1 hg).1) lv
    exact ⟨_, g1, g1.2.1.wfap (hw.ap g2)⟩
  · exact ⟨kd, uGo.rf hG.1, hw⟩
theorem p_like_go {t : Nat} {s : pS} {x : ev} {kd : Nat → Bool} {r : pS × Unit} (h : usg s.1 kd) (hl : p_like t s x = some (.inr r)) : uGo s.1 kd r.1.1 kd := by
  unfold p_like at hl
  split at hl
  · cases hl
  · rename_i S e
    cases hl
    rw [tLike_inr e]
    exact (uGo.rf h).same ⟨rfl, rfl, rfl⟩
theorem p_lb_bit {T : List pt_R} (hT : pt_lb T) {t : Nat} {r : pt_R} (hr : T[t]? = some r) (hk : r.1 = 7 ∨ r.1 = 8 ∨ r.1 = 9 ∨ r.1 = 10 ∨ r.1 = 17) : nN r.2.1 < 10 ∧ uhs (1 <<< (r.2.1 &&& 31)) (nN r.2.1) = true := by
  obtain ⟨l, h1, h2, h3⟩ := hT t r hr hk
  refine ⟨by rw [h3]; exact h1, ?_⟩
  rw [h3, h2, uhs_one h1 h1]; simp
