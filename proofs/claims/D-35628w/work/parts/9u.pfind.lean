/-! ===== finding types, purely ===== -/
set_option maxRecDepth 100000
/-- the state: the variables, and the places of each LET and REC -/
abbrev pS : Type := ts × (Nat → Int32)
/-- none: too little fuel; an error and the term where it is; or a state and what was found -/
abbrev pX (α : Type) : Type := Option ((Int32 × Nat) ⊕ (pS × α))
def px {α β : Type} (x : pX α) (f : pS → α → pX β) : pX β := match x with
  | none => none
  | some (.inl e) => some (.inl e)
  | some (.inr (s, a)) => f s a
theorem px_inr {α β : Type} {x : pX α} {f : pS → α → pX β} {r : pS × β} (h : px x f = some (.inr r)) : ∃ s a, x = some (.inr (s, a)) ∧ f s a = some (.inr r) := by
  match x with
  | none => cases h
  | some (.inl e) => cases h
  | some (.inr (s, a)) => exact ⟨s, a, rfl, h⟩
/-- two types are made the same, for the term t -/
def p_meet (n t : Nat) (s : pS) (x y : ev) : pX Unit := match tU n s.1 x y with
  | none => none
  | some (.inl e) => some (.inl (e, t))
  | some (.inr S) => some (.inr ((S, s.2), ()))
theorem p_meet_inr {n t : Nat} {s : pS} {x y : ev} {r : pS × Unit} (h : p_meet n t s x y = some (.inr r)) : tU n s.1 x y = some (.inr r.1.1) ∧ r.1.2 = s.2 := by
  unfold p_meet at h
  split at h
  · cases h
  · cases h
  · rename_i S e; cases h; exact ⟨e, rfl⟩
/-- a new variable: its number is s.1.1 -/
def p_new (s : pS) (lv c : Int32) : pS := (ts_new s.1 lv false c, s.2)
/-- a name, its type, whether it was made general -/
abbrev p_E : Type := Nat × ev × Bool
def p_gl (S : ts) (T : ev) : List Nat := (List.range S.1).filter fun v => uoc v T && decide (S.2.2.2.2 v = 1048576)
/-- how many labels the rows lack that become general -/
def p_cnt (S : ts) (lv : Int32) (T : ev) : Int32 := mny S ((List.range S.1).filter fun v => uoc v T && decide (lv < S.2.2.2.2 v))
/-- the type of the term t is made general -/
def p_gen (s : pS) (lv : Int32) (t : Nat) (b : ev) : pS := (ts_gen s.1 lv (uap s.1.2.1 b), upd s.2 t (if s.2 t < p_cnt s.1 lv (uap s.1.2.1 b) then p_cnt s.1 lv (uap s.1.2.1 b) else s.2 t))
/-- a name's type where it stands -/
def p_name (s : pS) (lv : Int32) (e : p_E) : pS × ev := if e.2.2 then ((ts_inst s.1 (p_gl s.1 (uap s.1.2.1 e.2.1)) lv, s.2), uap (uth (p_gl s.1 (uap s.1.2.1 e.2.1)) s.1.1) (uap s.1.2.1 e.2.1)) else (s, e.2.1)
def at_p {α : Type} (ps : List Nat) (i : Nat) (f : Nat → pX α) : pX α := match ps[i]? with
  | some j => f j
  | none => none
theorem at_p_inr {α : Type} {ps : List Nat} {i : Nat} {f : Nat → pX α} {r : pS × α} (h : at_p ps i f = some (.inr r)) : ∃ j, ps[i]? = some j ∧ f j = some (.inr r) := by
  unfold at_p at h
  split at h
  · rename_i j e; exact ⟨j, e, h⟩
  · cases h
/-- the cases from the term t on: label, name, body, the case itself; and the end; or the case whose label was there -/
def p_cases (T : List pt_R) : Nat → Nat → List Nat → Option (Nat ⊕ (List (Nat × Nat × Nat × Nat) × Nat))
  | 0, _, _ => none
  | f + 1, t, ls => match T[t]? with
    | none => none
    | some r => if r.1 = 17 then (if nN r.2.1 ∈ ls then some (.inl t) else match r.2.2.2.1[0]?, r.2.2.2.1[1]? with
      | some b, some nx => (match p_cases T f nx (ls ++ [nN r.2.1]) with
        | some (.inr (cs, e)) => some (.inr ((nN r.2.1, nN r.2.2.1, b, t) :: cs, e))
        | x => x)
      | _, _ => none) else some (.inr ([], t))
/-- k new type variables -/
def p_news (s : pS) (lv : Int32) : Nat → pS
  | 0 => s
  | k + 1 => p_news (p_new s lv 0) lv k
/-- the row of the cases, whose variables are from a on -/
def p_row (a : Nat) (en : ev) : List (Nat × Nat × Nat × Nat) → ev
  | [] => en
  | c :: cs => .add (.pow (.var a) c.1) (p_row (a + 1) en cs)
def p_lab (cs : List (Nat × Nat × Nat × Nat)) : Int32 := cs.foldl (fun b c => b ||| (1 <<< (nI c.1 &&& 31))) 0
/-- the bodies of the cases -/
def p_bods (rec : Nat → List p_E → pS → pX ev) (n : Nat) (G : List p_E) (to : Nat) : Nat → List (Nat × Nat × Nat × Nat) → pS → pX Unit
  | _, [], s => some (.inr (s, ()))
  | a, c :: cs, s => px (rec c.2.2.1 ((c.2.1, .var a, false) :: G) s) fun s1 b => px (p_meet n c.2.2.2 s1 b (.var to)) fun s2 _ => p_bods rec n G to (a + 1) cs s2
/-- a MATCH, behind what is matched -/
def p_match (T : List pt_R) (n : Nat) (rec : Nat → List p_E → pS → pX ev) (t j : Nat) (G : List p_E) (lv : Int32) (s : pS) (m : ev) : pX ev := match p_cases T 121 j [] with
  | none => none
  | some (.inl u) => some (.inl (4, u))
  | some (.inr (cs, e)) => match T[e]? with
    | none => none
    | some r => if r.1 = 16 then
        px (p_meet n t (p_new (p_news s lv cs.length) lv (p_lab cs)) m (.pow (p_row s.1.1 (.var (s.1.1 + cs.length)) cs) 1)) fun s1 _ =>
        px (p_bods rec n G s1.1.1 s.1.1 cs (p_new s1 lv 0)) fun s2 _ =>
        px (at_p r.2.2.2.1 0 fun b => rec b ((nN r.2.1, .pow (.var (s.1.1 + cs.length)) 1, false) :: G) s2) fun s3 b =>
        px (p_meet n e s3 b (.var s1.1.1)) fun s4 _ => some (.inr (s4, .var s1.1.1))
      else
        px (p_meet n t (p_news s lv cs.length) m (.pow (p_row s.1.1 (.natCast 0) cs) 1)) fun s1 _ =>
        px (p_bods rec n G s1.1.1 s.1.1 cs (p_new s1 lv 0)) fun s2 _ => some (.inr (s2, .var s1.1.1))
/-- all in a type is made comparable -/
def p_like (t : Nat) (s : pS) (x : ev) : pX Unit := match tLike s.1 (uap s.1.2.1 x) with
  | .inl e => some (.inl (e, t))
  | .inr S => some (.inr ((S, s.2), ()))
/-- one step of finding: the term t is r -/
def p_step (T : List pt_R) (n : Nat) (rec : Nat → List p_E → Int32 → pS → pX ev) (t : Nat) (r : pt_R) (G : List p_E) (lv : Int32) (s : pS) : pX ev :=
  if r.1 = 0 then some (.inr (s, .natCast 0))
  else if r.1 = 1 then (match G.find? fun e => e.1 == nN r.2.1 with
    | none => some (.inl (1, t))
    | some e => some (.inr (p_name s lv e)))
  else if r.1 = 2 then px (at_p r.2.2.2.1 0 fun j => rec j ((nN r.2.1, .var s.1.1, false) :: G) lv (p_new s lv 0)) fun s1 b => some (.inr (s1, .sub (.var s.1.1) b))
  else if r.1 = 3 then px (at_p r.2.2.2.1 0 fun j => rec j G lv s) fun s1 f => px (at_p r.2.2.2.1 1 fun j => rec j G lv s1) fun s2 g => px (p_meet n t (p_new s2 lv 0) f (.sub g (.var s2.1.1))) fun s3 _ => some (.inr (s3, .var s2.1.1))
  else if r.1 = 4 then px (at_p r.2.2.2.1 0 fun j => rec j G (lv + 1) s) fun s1 b => at_p r.2.2.2.1 1 fun j => rec j ((nN r.2.1, b, true) :: G) lv (p_gen s1 lv t b)
  else if r.1 = 5 then px (at_p r.2.2.2.1 0 fun j => rec j ((nN r.2.1, .var s.1.1, false) :: G) (lv + 1) (p_new s (lv + 1) 0)) fun s1 b => px (p_meet n t s1 b (.var s.1.1)) fun s2 _ => at_p r.2.2.2.1 1 fun j => rec j ((nN r.2.1, b, true) :: G) lv (p_gen s2 lv t b)
  else if r.1 = 6 then some (.inr (s, .pow (.natCast 0) 0))
  else if r.1 = 7 then px (at_p r.2.2.2.1 0 fun j => rec j G lv (p_new s lv (1 <<< (r.2.1 &&& 31)))) fun s1 f => px (at_p r.2.2.2.1 1 fun j => rec j G lv s1) fun s2 w => px (p_meet n t s2 w (.pow (.var s.1.1) 0)) fun s3 _ => some (.inr (s3, .pow (.add (.pow f (nN r.2.1)) (.var s.1.1)) 0))
  else if r.1 = 8 ∨ r.1 = 9 then px (at_p r.2.2.2.1 0 fun j => rec j G lv (p_new s lv (1 <<< (r.2.1 &&& 31)))) fun s1 f => px (p_meet n t (p_new s1 lv 0) f (.pow (.add (.pow (.var s1.1.1) (nN r.2.1)) (.var s.1.1)) 0)) fun s2 _ => some (.inr (s2, if r.1 = 8 then .var s1.1.1 else .pow (.var s.1.1) 0))
  else if r.1 = 10 then px (at_p r.2.2.2.1 0 fun j => rec j G lv (p_new s lv (1 <<< (r.2.1 &&& 31)))) fun s1 f => some (.inr (s1, .pow (.add (.pow f (nN r.2.1)) (.var s.1.1)) 1))
  else if r.1 = 11 then px (at_p r.2.2.2.1 0 fun j => rec j G lv s) fun s1 m => at_p r.2.2.2.1 1 fun j => p_match T n (fun b G s => rec b G lv s) t j G lv s1 m
  else if r.1 = 12 then px (at_p r.2.2.2.1 0 fun j => rec j G lv s) fun s1 f => px (p_meet n t s1 f (.natCast 0)) fun s2 _ => px (at_p r.2.2.2.1 1 fun j => rec j G lv s2) fun s3 x => px (at_p r.2.2.2.1 2 fun j => rec j G lv s3) fun s4 y => px (p_meet n t s4 y x) fun s5 _ => some (.inr (s5, x))
  else if r.1 = 13 then px (at_p r.2.2.2.1 0 fun j => rec j G lv s) fun s1 x => px (at_p r.2.2.2.1 1 fun j => rec j G lv s1) fun s2 y => px (p_meet n t s2 x (.natCast 0)) fun s3 _ => px (p_meet n t s3 y (.natCast 0)) fun s4 _ => some (.inr (s4, .natCast 0))
  else if r.1 = 14 then px (at_p r.2.2.2.1 0 fun j => rec j G lv s) fun s1 x => px (at_p r.2.2.2.1 1 fun j => rec j G lv s1) fun s2 y => px (p_meet n t s2 y x) fun s3 _ => px (p_like t s3 x) fun s4 _ => some (.inr (s4, .natCast 0))
  else none
/-- THE TYPE OF A TERM, purely: the variables are numbered as the component makes them -/
def pF (T : List pt_R) : Nat → Nat → List p_E → Int32 → pS → pX ev
  | 0, _, _, _, _ => none
  | n + 1, t, G, lv, s => match T[t]? with
    | none => none
    | some r => p_step T n (pF T n) t r G lv s
/-- the labels that terms have -/
def pt_lb (T : List pt_R) : Prop := ∀ (k : Nat) (r : pt_R), T[k]? = some r → (r.1 = 7 ∨ r.1 = 8 ∨ r.1 = 9 ∨ r.1 = 10 ∨ r.1 = 17) → ∃ l, l < 10 ∧ r.2.1 = nI l ∧ nN r.2.1 = l
theorem usg.inst {S : ts} {kd : Nat → Bool} (h : usg S kd) {gl : List Nat} (hgl : ∀ g ∈ gl, g < S.1) (lv : Int32) : uGo S kd (ts_inst S gl lv) (fun v => kd (uog gl S.1 v)) ∧ ugs (uG S kd) (uG (ts_inst S gl lv) (fun v => kd (uog gl S.1 v))) (uth gl S.1) := by
  have hg : ug_le (uG S kd) (uG (ts_inst S gl lv) (fun v => kd (uog gl S.1 v))) := ⟨Nat.le_add_right _ _, fun v hv => ⟨congrArg kd (uog_lt hv), congrArg S.2.2.2.1 (uog_lt hv)⟩⟩
  refine ⟨⟨hg, ⟨h.1, fun v hv => ?_, fun v hv => h.2.2 v (Nat.le_trans (Nat.le_add_right _ _) hv)⟩, h.1.le⟩, fun v hv => ?_⟩
  · have hv : v < S.1 + gl.length := hv
    by_cases e : v < S.1
    · obtain ⟨a1, a2⟩ := h.2.1 v e
      show uwf _ (kd (uog gl S.1 v)) (S.2.1 v) ∧ (kd (uog gl S.1 v) = true → ∀ j, j < 10 → uhs (S.2.2.2.1 (uog gl S.1 v)) j = true → uget (S.2.1 v) j = none ∧ ∀ u, uend (S.2.1 v) = some u → uhs (S.2.2.2.1 (uog gl S.1 u)) j = true)
      rw [uog_lt e]
      refine ⟨a1.mono hg, fun hk j h1 h2 => ?_⟩
      obtain ⟨b1, b2⟩ := a2 hk j h1 h2
      refine ⟨b1, fun u hu => ?_⟩
      have a1 : uwf (uG S kd) true (S.2.1 v) := by have := a1; rw [show (uG S kd).2.1 v = true from hk] at this; exact this
      have h8 := (a1.row.2.2.2 u hu).1
      rw [uog_lt h8]; exact b2 u hu
    · have h9 : S.2.1 v = .var v := h.2.2 v (by omega)
      show uwf _ (kd (uog gl S.1 v)) (S.2.1 v) ∧ _
      rw [show (ts_inst S gl lv).2.1 v = .var v from h9]
      refine ⟨?_, fun _ j h1 h2 => ⟨rfl, fun u hu => by simp only [uend, Option.some.injEq] at hu; subst hu; exact h2⟩⟩
      rw [h9]
      exact uwf_var (g := uG (ts_inst S gl lv) (fun v => kd (uog gl S.1 v))) hv
  · have hv : v < S.1 := hv
    by_cases e : v ∈ gl
    · rw [uth_in e]
      have hi := List.idxOf_lt_length_of_mem e
      have h1 : gl[gl.idxOf v]? = some v := by rw [List.getElem?_eq_getElem hi]; exact congrArg some (List.getElem_idxOf _)
      have hk : (uG (ts_inst S gl lv) (fun v => kd (uog gl S.1 v))).2.1 (S.1 + gl.idxOf v) = kd v := by show kd (uog gl S.1 _) = _; rw [uog_new h1]
      refine ⟨?_, fun _ j h2 h3 => ⟨rfl, fun u hu => ?_⟩⟩
      · have := uwf_var (g := uG (ts_inst S gl lv) (fun v => kd (uog gl S.1 v))) (u := S.1 + gl.idxOf v) (by show _ < S.1 + gl.length; omega)
        rw [hk] at this; exact this
      · simp only [uend, Option.some.injEq] at hu; subst hu
        show uhs (S.2.2.2.1 (uog gl S.1 _)) j = true
        rw [uog_new h1]; exact h3
    · rw [uth_not e]
      refine ⟨?_, fun _ j h2 h3 => ⟨rfl, fun u hu => ?_⟩⟩
      · have := uwf_var (g := uG (ts_inst S gl lv) (fun v => kd (uog gl S.1 v))) (u := v) (by show v < S.1 + gl.length; omega)
        have hk : (uG (ts_inst S gl lv) (fun v => kd (uog gl S.1 v))).2.1 v = kd v := by show kd (uog gl S.1 _) = _; rw [uog_lt hv]
        rw [hk] at this; exact this
      · simp only [uend, Option.some.injEq] at hu; subst hu
        show uhs (S.2.2.2.1 (uog gl S.1 v)) j = true
        rw [uog_lt hv]; exact h3
/-- a good state, and good types of the names -/
def pGd (s : pS) (kd : Nat → Bool) (G : List p_E) : Prop := usg s.1 kd ∧ ∀ e ∈ G, uwf (uG s.1 kd) false (uap s.1.2.1 e.2.1)
theorem pGd.go {s s' : pS} {kd kd' : Nat → Bool} {G : List p_E} (h : pGd s kd G) (hg : uGo s.1 kd s'.1 kd') : pGd s' kd' G := ⟨hg.2.1, fun e he => hg.wf (h.2 e he)⟩
theorem pGd.cons {s : pS} {kd : Nat → Bool} {G : List p_E} (h : pGd s kd G) {e : p_E} (he : uwf (uG s.1 kd) false (uap s.1.2.1 e.2.1)) : pGd s kd (e :: G) := ⟨h.1, fun x hx => by
  rcases List.mem_cons.1 hx with rfl | hx
  · exact he
  · exact h.2 x hx⟩
/-- a new variable, of the kind k -/
theorem p_new_go {s : pS} {kd : Nat → Bool} (h : usg s.1 kd) (lv c : Int32) (k : Bool) : uGo s.1 kd (p_new s lv c).1 (fun u => if u = s.1.1 then k else kd u) ∧ uwf (uG (p_new s lv c).1 (fun u => if u = s.1.1 then k else kd u)) k (uap (p_new s lv c).1.2.1 (.var s.1.1)) ∧ (p_new s lv c).1.2.2.2.1 s.1.1 = c := by
  refine ⟨h.new lv false c k, ?_, if_pos rfl⟩
  have e : uap (p_new s lv c).1.2.1 (.var s.1.1) = .var s.1.1 := h.2.2 s.1.1 (Nat.le_refl _)
  rw [e]
  have := uwf_var (g := uG (p_new s lv c).1 (fun u => if u = s.1.1 then k else kd u)) (u := s.1.1) (Nat.lt_succ_self _)
  rw [show (uG (p_new s lv c).1 (fun u => if u = s.1.1 then k else kd u)).2.1 s.1.1 = k from if_pos rfl] at this
  exact this
theorem p_gen_go {s : pS} {kd : Nat → Bool} (h : usg s.1 kd) (lv : Int32) (t : Nat) (b : ev) : uGo s.1 kd (p_gen s lv t b).1 kd := (uGo.rf h).same ⟨rfl, rfl, rfl⟩
theorem p_meet_go {n t : Nat} {s : pS} {kd : Nat → Bool} {x y : ev} {r : pS × Unit} (h : usg s.1 kd) (hx : uwf (uG s.1 kd) false (uap s.1.2.1 x)) (hy : uwf (uG s.1 kd) false (uap s.1.2.1 y)) (hm : p_meet n t s x y = some (.inr r)) : ∃ kd', uGo s.1 kd r.1.1 kd' := by
  obtain ⟨kd', h1, -⟩ := tU_good n s.1 kd x y r.1.1 h hx hy (p_meet_inr hm).1
  exact ⟨kd', h1⟩
