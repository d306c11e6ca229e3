/-! ===== renewing: functions, records, variants ===== -/
set_option maxRecDepth 100000
theorem uY.putF {rk : Nat} {B : mm_M} {b : Nat} {f g : Nat} {bq rn rn' : Option Nat} (h : B b = some (cf_E (some f) (some g) none bq rn)) : uY rk B (mm_U B b (cf_E (some f) (some g) none (some rk) rn')) := by
  refine ⟨fun z hz => by rw [mm_U_ne (fun e => by rw [e, h] at hz; cases hz)]; exact hz, fun q e he => ?_⟩
  by_cases hq : q = b
  · subst hq; rw [h] at he; cases he; exact Or.inr (Or.inl ⟨_, _, _, _, _, _, rfl, mm_U_eq⟩)
  · exact Or.inl ((mm_U_ne hq).trans he)
theorem uNu_putF {Z : mm_G} {B : mm_M} {L : List Nat} {vr : Nat → Nat} {S : ts} {rk b : Nat} {f g : Nat} {bq rn rn' : Option Nat} (hC : uCI Z B L vr S) (hb : b ∈ L) (h : B b = some (cf_E (some f) (some g) none bq rn)) (hq : bq ≠ some rk) : uNu (mm_U B b (cf_E (some f) (some g) none (some rk) rn')) L rk + 1 = uNu B L rk := by
  unfold uNu
  refine countP_flip (a := b) L hC.1.2.1 hb ?_ ?_ (fun x hx hxb => ?_)
  · rw [h]
    cases bq with
    | none => rfl
    | some q => exact bne_iff_ne.2 (fun e => hq (by rw [e]))
  · rw [mm_U_eq]
    show (rk != rk) = false
    simp
  · rw [mm_U_ne hxb]

/-- a function (record, variant) has a new one -/
theorem RN.renF {Z : mm_G} {B M M' : mm_M} {L : List Nat} {vr : Nat → Nat} {S : ts} {gl : List Nat} {rk : Nat} {q ar cp : Nat → Nat} {lv : Int32} {co cr : List (Nat × Nat)} {nw : List Nat} (h : RN Z B M L vr S gl rk q ar cp lv co cr nw) {b a : Nat} {f g f9 g9 : Nat} {bq rn : Option Nat} (hb : b ∈ L) (hBb : B b = some (cf_E (some f) (some g) none bq rn)) {t' : ev}
    (han : M a = some (cf_E none none none none none)) (haB : B a = none) (hanw : a ∉ nw) (harw : a ≠ rk) (haM : M' a = some (cf_E (some f9) (some g9) none none none)) (hbM : M' b = some (cf_E (some f) (some g) none (some rk) (some a))) (hk : ∀ z, z ≠ a → z ≠ b → M' z = M z) (ht : RPt Z M' L vr S.1 gl (a :: nw) (co ++ cr) t' false a) (hsee : ∀ t, tp Z B L vr S.1 t false b → uap S.2.1 t' = uap (uth gl S.1) (uap S.2.1 t) ∧ ∀ g ∈ gl, uoc g (uap S.2.1 t) = true → ∃ x, (g, x) ∈ co ++ cr) :
    RN Z (mm_U B b (cf_E (some f) (some g) none (some rk) (some a))) M' L vr S gl rk q ar cp lv co cr (a :: nw) ∧ (∀ z ci fs, z ≠ a → B z = none → M z = some (.inr (ci, fs)) → ci ≠ 41 → M' z = some (.inr (ci, fs))) ∧ uT M M' := by
  have hobj := fun x (hx : x ∈ nw) => h.obj hx
  obtain ⟨⟨h1, h2, h3⟩, ⟨h4, h5⟩, h6, ⟨h7, h8⟩, ⟨h9, h10, h11⟩, ⟨h12, h13⟩, h14⟩ := h
  have hY : uY rk B (mm_U B b (cf_E (some f) (some g) none (some rk) (some a))) := uY.putF hBb
  have hbM0 := h1.at hBb
  have hex : mm_Ext (mm_U B b (cf_E (some f) (some g) none (some rk) (some a))) M' := fun z hz => by
    by_cases e : z = b
    · subst e; rw [mm_U_eq]; exact hbM
    · rw [mm_U_ne e] at hz ⊢
      rw [hk z (fun e2 => hz (e2 ▸ haB)) e, h1 z hz]
  have hns : ∀ z ci fs, z ≠ a → B z = none → M z = some (.inr (ci, fs)) → ci ≠ 41 → M' z = some (.inr (ci, fs)) := fun z ci fs hza hz hm hc => by
    rw [hk z hza (fun e => by rw [e, hBb] at hz; cases hz)]; exact hm
  have hT : uT M M' := uNS.T (fun z ci fs hz hm hc n1 n2 n3 => hns z ci fs (fun e => by
    subst e
    rw [han] at hm
    exact n1 none none (Or.inl rfl) none none none (Option.some.inj hm).symm) hz hm hc) h1 hY hex
  have hnw : ∀ x ∈ nw, x ∈ a :: nw := fun x hx => List.mem_cons_of_mem _ hx
  have hB0 : ∀ {z : Nat}, B z = none → mm_U B b (cf_E (some f) (some g) none (some rk) (some a)) z = none := fun {z} hz => hY.1 z hz
  have hrl : RL Z (mm_U B b (cf_E (some f) (some g) none (some rk) (some a))) M' q ar cp (RX vr co cr) := by
    refine ⟨fun i hi => ?_, h6.2⟩
    obtain ⟨k1, k2, k3, k4⟩ := h6.1 i hi
    refine ⟨?_, hB0 k2, k3.imp (fun h => h) hB0, k4⟩
    obtain ⟨md, fz, l1, l2, l3⟩ := k1
    exact ⟨md, fz, by rw [hk _ (fun e => by rw [e, han] at l1; simp at l1) (mm_neC l1 hbM0 (by decide))]; exact l1, by rw [hk _ (fun e => by rw [e, han] at l2; simp at l2) (mm_neA l2 hbM0)]; exact l2, l3⟩
  have hback : ∀ b', b' ∈ L → ∀ t, tp Z (mm_U B b (cf_E (some f) (some g) none (some rk) (some a))) L vr S.1 t false b' → tp Z B L vr S.1 t false b' := fun b' hb' t ht => by
    obtain ⟨m, t0, k⟩ := h2.2.2.1 b' hb'
    obtain ⟨rfl, rfl⟩ := tp.uniq h2.1.2.2.1 _ _ _ _ _ ht (tp.monoT hY.T (fun _ h => h) (fun _ _ => rfl) (Nat.le_refl _) _ _ _ k)
    exact k
  have hcu : ∀ {b' : Nat} {rn9 : Option Nat}, b' ∈ L → RCA Z B M L vr S gl nw (co ++ cr) b' rn9 → RCA Z (mm_U B b (cf_E (some f) (some g) none (some rk) (some a))) M' L vr S gl (a :: nw) (co ++ cr) b' rn9 := fun {b' rn9} hb' hr => by
    obtain ⟨a', t9, e1, e2, e3⟩ := hr.mono hT hnw (fun _ h => h)
    exact ⟨a', t9, e1, e2, fun t ht => e3 t (hback b' hb' t ht)⟩
  have hcn : RCA Z (mm_U B b (cf_E (some f) (some g) none (some rk) (some a))) M' L vr S gl (a :: nw) (co ++ cr) b (some a) := ⟨a, t', rfl, ht, fun t ht9 => hsee t (hback b hb t ht9)⟩
  refine ⟨⟨⟨hex, h2.byY hY, ?_⟩, ⟨hB0 h4, hns rk _ _ (Ne.symm harw) h4 h5 (by decide)⟩, hrl, ⟨fun p hp => ?_, fun p hp => ?_⟩, ⟨h9, h10, h11⟩, ⟨List.nodup_cons.2 ⟨hanw, h12⟩, fun x hx => ?_⟩, fun b' hb' => ⟨fun f8 g8 sm8 rn8 hk8 => ?_, fun iv8 w8 sm8 rn8 hk8 => ?_⟩⟩, hns, hT⟩
  · obtain ⟨f0, hf0⟩ := h3
    exact ⟨f0, by rw [mm_U_ne (mm_neA hf0 hBb)]; exact hf0⟩
  · obtain ⟨k1, k2, ⟨bd, l1, l2, k3⟩, k4⟩ := h7 p hp
    exact ⟨k1, hnw _ k2, ⟨bd, l1, l2, hY.atC k3 (by decide)⟩, hns p.2 _ _ (fun e => hanw (e ▸ k2)) (h13 _ k2).1 k4 (by decide)⟩
  · obtain ⟨k1, k2, ⟨bd, l1, l2, l3, k3⟩, k4⟩ := h8 p hp
    exact ⟨k1, hnw _ k2, ⟨bd, l1, l2, l3, hY.atC k3 (by decide)⟩, hns p.2 _ _ (fun e => hanw (e ▸ k2)) (h13 _ k2).1 k4 (by decide)⟩
  · rcases List.mem_cons.1 hx with rfl | hx
    · exact ⟨hB0 haB, Or.inr ⟨t', ht, Or.inl ⟨_, _, haM⟩⟩⟩
    · obtain ⟨k1, k2⟩ := h13 x hx
      refine ⟨hB0 k1, ?_⟩
      rcases k2 with ⟨p, hp, e⟩ | ⟨t9, k3, k4⟩
      · exact Or.inl ⟨p, hp, e⟩
      · refine Or.inr ⟨t9, k3.mono hT hnw (fun _ h => h), ?_⟩
        rcases k4 with ⟨f7, g7, k4⟩ | ⟨iv7, w7, k4⟩
        · exact Or.inl ⟨f7, g7, hns x _ _ (fun e => hanw (e ▸ hx)) k1 k4 (by decide)⟩
        · exact Or.inr ⟨iv7, w7, hns x _ _ (fun e => hanw (e ▸ hx)) k1 k4 (by decide)⟩
  · by_cases e : b' = b
    · subst e
      rw [mm_U_eq] at hk8
      obtain ⟨-, -, -, -, rfl⟩ := cf_inj (Option.some.inj hk8); exact hcn
    · rw [mm_U_ne e] at hk8; exact hcu hb' ((h14 b' hb').1 f8 g8 sm8 rn8 hk8)
  · by_cases e : b' = b
    · subst e
      rw [mm_U_eq] at hk8
      simp at hk8
    · rw [mm_U_ne e] at hk8; exact hcu hb' ((h14 b' hb').2 iv8 w8 sm8 rn8 hk8)

theorem uY.putB {rk : Nat} {B : mm_M} {b : Nat} {iv : Bool} {w : Nat} {bq rn rn' : Option Nat} (h : B b = some (cb_E iv (some w) none bq rn)) : uY rk B (mm_U B b (cb_E iv (some w) none (some rk) rn')) := by
  refine ⟨fun z hz => by rw [mm_U_ne (fun e => by rw [e, h] at hz; cases hz)]; exact hz, fun q e he => ?_⟩
  by_cases hq : q = b
  · subst hq; rw [h] at he; cases he; exact Or.inr (Or.inr ⟨_, _, _, _, _, _, rfl, mm_U_eq⟩)
  · exact Or.inl ((mm_U_ne hq).trans he)
theorem uNu_putB {Z : mm_G} {B : mm_M} {L : List Nat} {vr : Nat → Nat} {S : ts} {rk b : Nat} {iv : Bool} {w : Nat} {bq rn rn' : Option Nat} (hC : uCI Z B L vr S) (hb : b ∈ L) (h : B b = some (cb_E iv (some w) none bq rn)) (hq : bq ≠ some rk) : uNu (mm_U B b (cb_E iv (some w) none (some rk) rn')) L rk + 1 = uNu B L rk := by
  unfold uNu
  refine countP_flip (a := b) L hC.1.2.1 hb ?_ ?_ (fun x hx hxb => ?_)
  · rw [h]
    cases bq with
    | none => rfl
    | some q => exact bne_iff_ne.2 (fun e => hq (by rw [e]))
  · rw [mm_U_eq]
    show (rk != rk) = false
    simp
  · rw [mm_U_ne hxb]

/-- a function (record, variant) has a new one -/
theorem RN.renB {Z : mm_G} {B M M' : mm_M} {L : List Nat} {vr : Nat → Nat} {S : ts} {gl : List Nat} {rk : Nat} {q ar cp : Nat → Nat} {lv : Int32} {co cr : List (Nat × Nat)} {nw : List Nat} (h : RN Z B M L vr S gl rk q ar cp lv co cr nw) {b a : Nat} {iv : Bool} {w w9 : Nat} {bq rn : Option Nat} {iv9 : Bool} (hb : b ∈ L) (hBb : B b = some (cb_E iv (some w) none bq rn)) {t' : ev}
    (han : M a = some (cb_E false none none none none)) (haB : B a = none) (hanw : a ∉ nw) (harw : a ≠ rk) (haM : M' a = some (cb_E iv9 (some w9) none none none)) (hbM : M' b = some (cb_E iv (some w) none (some rk) (some a))) (hk : ∀ z, z ≠ a → z ≠ b → M' z = M z) (ht : RPt Z M' L vr S.1 gl (a :: nw) (co ++ cr) t' false a) (hsee : ∀ t, tp Z B L vr S.1 t false b → uap S.2.1 t' = uap (uth gl S.1) (uap S.2.1 t) ∧ ∀ g ∈ gl, uoc g (uap S.2.1 t) = true → ∃ x, (g, x) ∈ co ++ cr) :
    RN Z (mm_U B b (cb_E iv (some w) none (some rk) (some a))) M' L vr S gl rk q ar cp lv co cr (a :: nw) ∧ (∀ z ci fs, z ≠ a → B z = none → M z = some (.inr (ci, fs)) → ci ≠ 41 → M' z = some (.inr (ci, fs))) ∧ uT M M' := by
  have hobj := fun x (hx : x ∈ nw) => h.obj hx
  obtain ⟨⟨h1, h2, h3⟩, ⟨h4, h5⟩, h6, ⟨h7, h8⟩, ⟨h9, h10, h11⟩, ⟨h12, h13⟩, h14⟩ := h
  have hY : uY rk B (mm_U B b (cb_E iv (some w) none (some rk) (some a))) := uY.putB hBb
  have hbM0 := h1.at hBb
  have hex : mm_Ext (mm_U B b (cb_E iv (some w) none (some rk) (some a))) M' := fun z hz => by
    by_cases e : z = b
    · subst e; rw [mm_U_eq]; exact hbM
    · rw [mm_U_ne e] at hz ⊢
      rw [hk z (fun e2 => hz (e2 ▸ haB)) e, h1 z hz]
  have hns : ∀ z ci fs, z ≠ a → B z = none → M z = some (.inr (ci, fs)) → ci ≠ 41 → M' z = some (.inr (ci, fs)) := fun z ci fs hza hz hm hc => by
    rw [hk z hza (fun e => by rw [e, hBb] at hz; cases hz)]; exact hm
  have hT : uT M M' := uNS.T (fun z ci fs hz hm hc n1 n2 n3 => hns z ci fs (fun e => by
    subst e
    rw [han] at hm
    exact n2 false none none none (Option.some.inj hm).symm) hz hm hc) h1 hY hex
  have hnw : ∀ x ∈ nw, x ∈ a :: nw := fun x hx => List.mem_cons_of_mem _ hx
  have hB0 : ∀ {z : Nat}, B z = none → mm_U B b (cb_E iv (some w) none (some rk) (some a)) z = none := fun {z} hz => hY.1 z hz
  have hrl : RL Z (mm_U B b (cb_E iv (some w) none (some rk) (some a))) M' q ar cp (RX vr co cr) := by
    refine ⟨fun i hi => ?_, h6.2⟩
    obtain ⟨k1, k2, k3, k4⟩ := h6.1 i hi
    refine ⟨?_, hB0 k2, k3.imp (fun h => h) hB0, k4⟩
    obtain ⟨md, fz, l1, l2, l3⟩ := k1
    exact ⟨md, fz, by rw [hk _ (fun e => by rw [e, han] at l1; simp at l1) (mm_neC l1 hbM0 (by decide))]; exact l1, by rw [hk _ (fun e => by rw [e, han] at l2; simp at l2) (mm_neA l2 hbM0)]; exact l2, l3⟩
  have hback : ∀ b', b' ∈ L → ∀ t, tp Z (mm_U B b (cb_E iv (some w) none (some rk) (some a))) L vr S.1 t false b' → tp Z B L vr S.1 t false b' := fun b' hb' t ht => by
    obtain ⟨m, t0, k⟩ := h2.2.2.1 b' hb'
    obtain ⟨rfl, rfl⟩ := tp.uniq h2.1.2.2.1 _ _ _ _ _ ht (tp.monoT hY.T (fun _ h => h) (fun _ _ => rfl) (Nat.le_refl _) _ _ _ k)
    exact k
  have hcu : ∀ {b' : Nat} {rn9 : Option Nat}, b' ∈ L → RCA Z B M L vr S gl nw (co ++ cr) b' rn9 → RCA Z (mm_U B b (cb_E iv (some w) none (some rk) (some a))) M' L vr S gl (a :: nw) (co ++ cr) b' rn9 := fun {b' rn9} hb' hr => by
    obtain ⟨a', t9, e1, e2, e3⟩ := hr.mono hT hnw (fun _ h => h)
    exact ⟨a', t9, e1, e2, fun t ht => e3 t (hback b' hb' t ht)⟩
  have hcn : RCA Z (mm_U B b (cb_E iv (some w) none (some rk) (some a))) M' L vr S gl (a :: nw) (co ++ cr) b (some a) := ⟨a, t', rfl, ht, fun t ht9 => hsee t (hback b hb t ht9)⟩
  refine ⟨⟨⟨hex, h2.byY hY, ?_⟩, ⟨hB0 h4, hns rk _ _ (Ne.symm harw) h4 h5 (by decide)⟩, hrl, ⟨fun p hp => ?_, fun p hp => ?_⟩, ⟨h9, h10, h11⟩, ⟨List.nodup_cons.2 ⟨hanw, h12⟩, fun x hx => ?_⟩, fun b' hb' => ⟨fun f8 g8 sm8 rn8 hk8 => ?_, fun iv8 w8 sm8 rn8 hk8 => ?_⟩⟩, hns, hT⟩
  · obtain ⟨f0, hf0⟩ := h3
    exact ⟨f0, by rw [mm_U_ne (mm_neA hf0 hBb)]; exact hf0⟩
  · obtain ⟨k1, k2, ⟨bd, l1, l2, k3⟩, k4⟩ := h7 p hp
    exact ⟨k1, hnw _ k2, ⟨bd, l1, l2, hY.atC k3 (by decide)⟩, hns p.2 _ _ (fun e => hanw (e ▸ k2)) (h13 _ k2).1 k4 (by decide)⟩
  · obtain ⟨k1, k2, ⟨bd, l1, l2, l3, k3⟩, k4⟩ := h8 p hp
    exact ⟨k1, hnw _ k2, ⟨bd, l1, l2, l3, hY.atC k3 (by decide)⟩, hns p.2 _ _ (fun e => hanw (e ▸ k2)) (h13 _ k2).1 k4 (by decide)⟩
  · rcases List.mem_cons.1 hx with rfl | hx
    · exact ⟨hB0 haB, Or.inr ⟨t', ht, Or.inr ⟨_, _, haM⟩⟩⟩
    · obtain ⟨k1, k2⟩ := h13 x hx
      refine ⟨hB0 k1, ?_⟩
      rcases k2 with ⟨p, hp, e⟩ | ⟨t9, k3, k4⟩
      · exact Or.inl ⟨p, hp, e⟩
      · refine Or.inr ⟨t9, k3.mono hT hnw (fun _ h => h), ?_⟩
        rcases k4 with ⟨f7, g7, k4⟩ | ⟨iv7, w7, k4⟩
        · exact Or.inl ⟨f7, g7, hns x _ _ (fun e => hanw (e ▸ hx)) k1 k4 (by decide)⟩
        · exact Or.inr ⟨iv7, w7, hns x _ _ (fun e => hanw (e ▸ hx)) k1 k4 (by decide)⟩
  · by_cases e : b' = b
    · subst e
      rw [mm_U_eq] at hk8
      simp at hk8
    · rw [mm_U_ne e] at hk8; exact hcu hb' ((h14 b' hb').1 f8 g8 sm8 rn8 hk8)
  · by_cases e : b' = b
    · subst e
      rw [mm_U_eq] at hk8
      obtain ⟨-, -, -, -, rfl⟩ := cb_inj (Option.some.inj hk8); exact hcn
    · rw [mm_U_ne e] at hk8; exact hcu hb' ((h14 b' hb').2 iv8 w8 sm8 rn8 hk8)

