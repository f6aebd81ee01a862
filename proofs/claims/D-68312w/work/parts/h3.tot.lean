/-! the parser answers: types -/
def TO {α : Type} (Q : α → PS → Prop) (Qf : FT → Prop) (q : PR α) : Prop := match q with
  | none => False
  | some (.inl (v, ps')) => Q v ps'
  | some (.inr e) => Qf e
def QTy {α : Type} (tk : TK) (ps : PS) (s : Nat) : α → PS → Prop := fun _ ps' => ps.1 + s ≤ ps'.1 ∧ ps'.1 ≤ Tn tk ∧ ps'.2 = ps.2
def FTy (tk : TK) (ps : PS) : FT → Prop := fun e => e.2.2 = ps.2.2.2 ∧ ps.1 ≤ e.2.1 ∧ e.2.1 ≤ Tn tk
def TTy {α : Type} (tk : TK) (s n : Nat) (p : PA α) : Prop := ∀ ps : PS, ps.1 ≤ Tn tk → ps.2.1 ≤ 32 → 33 ≤ n + ps.2.1 → TO (QTy tk ps s) (FTy tk ps) (p ps)
section TOT
variable {α β : Type} {tk : TK} {ps ps1 ps' : PS} {Q : β → PS → Prop} {Q' : α → PS → Prop} {Qf : FT → Prop} {p : PA α} {F : α → PA β} {s n : Nat} {ty pat val : PA TR}
theorem to_pb (h : TO Q' Qf (p ps)) (hF : ∀ v ps', Q' v ps' → TO Q Qf (F v ps')) : TO Q Qf (pb p F ps) := by
  unfold pb
  match hp : p ps, h with
  | none, h => exact h.elim
  | some (.inr e), h => exact h
  | some (.inl (v, ps')), h => exact hF v ps' h
theorem to_mono {Qf' : FT → Prop} {Q2 : β → PS → Prop} {q : PR β} (h : TO Q Qf q) (hQ : ∀ v ps', Q v ps' → Q2 v ps') (hf : ∀ e, Qf e → Qf' e) : TO Q2 Qf' q := by
  match q, h with
  | none, h => exact h.elim
  | some (.inr e), h => exact hf e h
  | some (.inl (v, ps')), h => exact hQ v ps' h
theorem to_pbT (h : TO (QTy tk ps s) (FTy tk ps) (p ps)) (hf : ∀ e, FTy tk ps e → Qf e) (hF : ∀ v a, ps.1 + s ≤ a → a ≤ Tn tk → TO Q Qf (F v (a, ps.2))) : TO Q Qf (pb p F ps) := by
  refine to_pb (Q' := QTy tk ps s) (to_mono h (fun _ _ h => h) hf) fun v ps' h' => ?_
  obtain ⟨a, s'⟩ := ps'
  obtain ⟨h1, h2, h3⟩ := h'
  dsimp only at h1 h2 h3
  subst h3
  exact hF v a h1 h2
theorem FTy.up {e : FT} (h : FTy tk ps1 e) (hx : ps1.2.2.2 = ps.2.2.2) (h1 : ps.1 ≤ ps1.1) : FTy tk ps e := ⟨h.1.trans hx, Nat.le_trans h1 h.2.1, h.2.2⟩
theorem FTy.flt {k : Int32} (hx : ps1.2.2.2 = ps.2.2.2) (h1 : ps.1 ≤ ps1.1) (h2 : ps1.1 ≤ Tn tk) : FTy tk ps (k, ps1.1, ps1.2.2.2) := ⟨hx, h1, h2⟩
theorem to_need {sn : Int32} {G : PA β} (h1 : Qf (1, ps.1, ps.2.2.2)) (h : ps.1 < Tn tk → TO Q Qf (G (ps.1 + 1, ps.2))) : TO Q Qf (pNeed tk sn G ps) := by
  unfold pNeed
  split
  · next hs => exact h (sg_lt hs)
  · exact h1
theorem to_enter {G : PA β} (h1 : Qf (5, ps.1, ps.2.2.2)) (h : ps.2.1 < 32 → TO Q Qf (G (ps.1, ps.2.1 + 1, ps.2.2))) : TO Q Qf (pEnter G ps) := by
  unfold pEnter
  split
  · next hs => exact h hs
  · exact h1
theorem to_adv {G : PA β} (hl : ps.1 < Tn tk) (h : TO Q Qf (G (ps.1 + 1, ps.2))) : TO Q Qf (pAdv tk G ps) := by
  unfold pAdv
  rw [if_pos hl]
  exact h
theorem to_gT (h : TO (QTy tk ps 1) (FTy tk ps) (p ps)) : TO (QTy tk ps 1) (FTy tk ps) (grT tk p ps) := by
  unfold grT
  match hp : p ps, h with
  | none, h => exact h.elim
  | some (.inr e), h =>
    dsimp only
    rw [if_pos h.1]
    exact h
  | some (.inl (v, ps')), h =>
    dsimp only
    rw [if_pos ⟨h.1, h.2.1, h.2.2⟩]
    exact h
theorem to_gQ (h : TO (QTy tk ps s) (FTy tk ps) (p ps)) : TO (QTy tk ps s) (FTy tk ps) (grQ tk p ps) := by
  unfold grQ
  match hp : p ps, h with
  | none, h => exact h.elim
  | some (.inr e), h =>
    dsimp only
    rw [if_pos h.1]
    exact h
  | some (.inl (v, ps')), h =>
    dsimp only
    rw [if_pos ⟨Nat.le_trans (Nat.le_add_right _ _) h.1, h.2.1, h.2.2⟩]
    exact h
theorem k_lt' {i : Nat} {c : Int32} (h : kAt tk i = c) (hc : c ≠ 0) : i < Tn tk := k_lt (by rw [h]; exact hc)
theorem nm_lt {i : Nat} (h : nmB tk i = true) : i < Tn tk := by
  refine k_lt fun e => ?_
  simp [nmB, e] at h
theorem lab_lt' {i : Nat} (h : labB tk i = true) : i < Tn tk := by
  refine k_lt fun e => ?_
  simp [labB, nmB, e] at h
theorem t_TV (h1 : ps.1 ≤ Tn tk) : TO (QTy tk ps 1) (FTy tk ps) (pTV tk ps) := by
  refine to_gT ?_
  split
  · next h => exact ⟨Nat.le_refl _, k_lt' h (by decide), rfl⟩
  · exact FTy.flt rfl (Nat.le_refl _) h1
theorem t_Tyc {v : V} {b : Nat} (h1 : ps.1 ≤ Tn tk) : TO (QTy tk ps 1) (FTy tk ps) (pTyc tk v b ps) := by
  refine to_gT ?_
  split
  · next h => exact ⟨Nat.le_refl _, tyc_lt h, rfl⟩
  · exact FTy.flt rfl (Nat.le_refl _) h1
theorem t_Tycs {b : Nat} : ∀ (m : Nat) (t : TR) (ps : PS), ps.1 ≤ Tn tk → Tn tk - ps.1 < m → TO (QTy tk ps 0) (FTy tk ps) (pTycs tk b m t ps) := by
  intro m
  induction m with
  | zero => intro t ps _ h; omega
  | succ m ih =>
    intro t ps h1 hm
    unfold pTycs
    split
    · next h =>
      refine to_pbT (t_Tyc h1) (fun e h => h) fun t' a g1 g2 => ?_
      exact to_mono (ih t' (a, ps.2) g2 (by dsimp only; omega)) (fun _ ps' h => ⟨by have := h.1; dsimp only at this; omega, h.2⟩) (fun e h => h.up rfl (by dsimp only; omega))
    · exact ⟨Nat.le_refl _, h1, rfl⟩
theorem t_Flds {fk sn : Int32} (hv : TTy tk 1 n val) : ∀ (m : Nat) (acc : List (Int32 × TR)) (ps : PS), ps.1 ≤ Tn tk → ps.2.1 ≤ 32 → 33 ≤ n + ps.2.1 → Tn tk - ps.1 < m → TO (QTy tk ps 1) (FTy tk ps) (pFlds tk fk sn val m acc ps) := by
  intro m
  induction m with
  | zero => intro acc ps _ _ _ h; omega
  | succ m ih =>
    intro acc ps h1 h2 h3 hm
    unfold pFlds
    split
    · next h =>
      have hlt := lab_lt' h
      split
      · exact FTy.flt rfl (Nat.le_refl _) h1
      · refine to_need (FTy.flt rfl (Nat.le_succ _) hlt) fun hl2 => ?_
        refine to_pbT (hv (ps.1 + 1 + 1, ps.2) hl2 h2 h3) (fun e h => h.up rfl (by dsimp only; omega)) fun v a g1 g2 => ?_
        dsimp only at g1 ⊢
        split
        · next h39 =>
          have := sg_lt h39
          refine to_mono (ih _ (a + 1, ps.2) this h2 h3 (by dsimp only; omega)) (fun _ ps' h => ⟨by have := h.1; dsimp only at this; omega, h.2⟩) (fun e h => h.up rfl (by dsimp only; omega))
        · exact ⟨by dsimp only; omega, g2, rfl⟩
    · exact FTy.flt rfl (Nat.le_refl _) h1
theorem t_Seps {sn : Int32} (hv : TTy tk 1 n val) : ∀ (m : Nat) (ps : PS), ps.1 ≤ Tn tk → ps.2.1 ≤ 32 → 33 ≤ n + ps.2.1 → Tn tk - ps.1 < m → TO (QTy tk ps 0) (FTy tk ps) (pSeps tk sn val m ps) := by
  intro m
  induction m with
  | zero => intro ps _ _ _ h; omega
  | succ m ih =>
    intro ps h1 h2 h3 hm
    unfold pSeps
    split
    · next h =>
      have hlt : ps.1 < Tn tk := sg_lt h
      refine to_pbT (hv (ps.1 + 1, ps.2) hlt h2 h3) (fun e h => h.up rfl (by dsimp only; omega)) fun v a g1 g2 => ?_
      dsimp only at g1 ⊢
      refine to_pbT (ih (a, ps.2) g2 h2 h3 (by dsimp only; omega)) (fun e h => h.up rfl (by dsimp only; omega)) fun ts a' g3 g4 => ?_
      dsimp only at g3
      exact ⟨by dsimp only; omega, g4, rfl⟩
    · exact ⟨Nat.le_refl _, h1, rfl⟩
theorem t_RecT {fk sn k : Int32} (hv : TTy tk 1 n val) (h1 : ps.1 < Tn tk) (h3 : 33 ≤ n + 1 + ps.2.1) (hT : Tn tk < LF) : TO (QTy tk ps 1) (FTy tk ps) (pRecT tk fk sn k val ps) := by
  refine to_gT ?_
  refine to_enter (FTy.flt rfl (Nat.le_refl _) (Nat.le_of_lt h1)) fun ho => ?_
  refine to_adv h1 ?_
  refine to_pbT (s := 0) (ps := (ps.1 + 1, ps.2.1 + 1, ps.2.2)) ?_ (fun e h => h.up rfl (Nat.le_succ _)) fun l a g1 g2 => ?_
  · dsimp only
    split
    · exact ⟨Nat.le_refl _, h1, rfl⟩
    · exact to_mono (t_Flds hv LF [] (ps.1 + 1, ps.2.1 + 1, ps.2.2) h1 ho (by dsimp only; omega) (by dsimp only; omega)) (fun _ _ h => ⟨by have := h.1; omega, h.2⟩) (fun _ h => h)
  · dsimp only at g1
    refine to_need (FTy.flt rfl (by dsimp only; omega) g2) fun hl => ?_
    exact ⟨by dsimp only; omega, hl, rfl⟩
theorem t_BrT (hv : TTy tk 1 n ty) (h1 : ps.1 < Tn tk) (h3 : 33 ≤ n + 1 + ps.2.1) (hT : Tn tk < LF) : TO (QTy tk ps 1) (FTy tk ps) (pBrT tk ty ps) := by
  refine to_gT ?_
  refine to_enter (FTy.flt rfl (Nat.le_refl _) (Nat.le_of_lt h1)) fun ho => ?_
  refine to_adv h1 ?_
  refine to_pbT (hv (ps.1 + 1, ps.2.1 + 1, ps.2.2) h1 ho (by dsimp only; omega)) (fun e h => h.up rfl (Nat.le_succ _)) fun t a g1 g2 => ?_
  dsimp only at g1 ⊢
  refine to_pbT (t_Seps hv LF (a, ps.2.1 + 1, ps.2.2) g2 ho (by dsimp only; omega) (by dsimp only; omega)) (fun e h => h.up rfl (by dsimp only; omega)) fun ts a' g3 g4 => ?_
  dsimp only at g3 ⊢
  refine to_need (FTy.flt rfl (by dsimp only; omega) g4) fun hl => ?_
  show TO _ _ (if ts = [] then some (.inl (t, (a' + 1, ps.2.1 + 1 - 1, ps.2.2))) else pTyc tk (tLi (t :: ts)) ps.1 (a' + 1, ps.2.1 + 1 - 1, ps.2.2))
  split
  · exact ⟨by dsimp only; omega, hl, rfl⟩
  · exact to_mono (t_Tyc (ps := (a' + 1, ps.2.1 + 1 - 1, ps.2.2)) hl) (fun _ ps' h => ⟨by have := h.1; dsimp only at this; omega, h.2.1, h.2.2⟩) (fun e h => h.up rfl (by dsimp only; omega))
theorem t_Con (hv : TTy tk 1 n ty) (h1 : ps.1 ≤ Tn tk) (h3 : 33 ≤ n + 1 + ps.2.1) (hT : Tn tk < LF) : TO (QTy tk ps 1) (FTy tk ps) (pCon tk ty ps) := by
  refine to_gT ?_
  refine to_pbT (s := 1) ?_ (fun e h => h) fun t a g1 g2 => ?_
  · split
    · exact t_TV h1
    · split
      · next h => exact t_RecT hv (sg_lt h) h3 hT
      · split
        · next h => exact t_BrT hv (sg_lt h) h3 hT
        · exact t_Tyc h1
  · exact to_mono (t_Tycs LF t (a, ps.2) g2 (by dsimp only; omega)) (fun _ ps' h => ⟨by have := h.1; dsimp only at this; omega, h.2⟩) (fun e h => h.up rfl (by dsimp only; omega))
theorem t_Stars (hv : TTy tk 1 n ty) (hT : Tn tk < LF) : ∀ (m : Nat) (ps : PS), ps.1 ≤ Tn tk → 33 ≤ n + 1 + ps.2.1 → Tn tk - ps.1 < m → TO (QTy tk ps 0) (FTy tk ps) (pStars tk ty m ps) := by
  intro m
  induction m with
  | zero => intro ps _ _ h; omega
  | succ m ih =>
    intro ps h1 h3 hm
    unfold pStars
    split
    · next h =>
      have hlt : ps.1 < Tn tk := k_lt' h.1 (by decide)
      refine to_pbT (t_Con (ps := (ps.1 + 1, ps.2)) hv hlt h3 hT) (fun e h => h.up rfl (by dsimp only; omega)) fun v a g1 g2 => ?_
      dsimp only at g1 ⊢
      refine to_pbT (ih (a, ps.2) g2 h3 (by dsimp only; omega)) (fun e h => h.up rfl (by dsimp only; omega)) fun ts a' g3 g4 => ?_
      dsimp only at g3
      exact ⟨by dsimp only; omega, g4, rfl⟩
    · exact ⟨Nat.le_refl _, h1, rfl⟩
theorem t_Prod (hv : TTy tk 1 n ty) (hT : Tn tk < LF) (h1 : ps.1 ≤ Tn tk) (h3 : 33 ≤ n + 1 + ps.2.1) : TO (QTy tk ps 1) (FTy tk ps) (pProd tk ty ps) := by
  refine to_gT ?_
  refine to_pbT (t_Con hv h1 h3 hT) (fun e h => h) fun t a g1 g2 => ?_
  refine to_pbT (t_Stars hv hT LF (a, ps.2) g2 h3 (by dsimp only; omega)) (fun e h => h.up rfl (by dsimp only; omega)) fun ts a' g3 g4 => ?_
  dsimp only at g3
  exact ⟨by dsimp only; omega, g4, rfl⟩
theorem t_Arrs (hv : TTy tk 1 n ty) (hT : Tn tk < LF) : ∀ (m : Nat) (ps : PS), ps.1 ≤ Tn tk → 33 ≤ n + 1 + ps.2.1 → Tn tk - ps.1 < m → TO (QTy tk ps 1) (FTy tk ps) (pArrs tk ty m ps) := by
  intro m
  induction m with
  | zero => intro ps _ _ h; omega
  | succ m ih =>
    intro ps h1 h3 hm
    unfold pArrs
    refine to_pbT (t_Prod hv hT h1 h3) (fun e h => h) fun v a g1 g2 => ?_
    dsimp only
    split
    · next h =>
      have hlt : a < Tn tk := sg_lt h
      refine to_pbT (ih (a + 1, ps.2) hlt h3 (by dsimp only; omega)) (fun e h => h.up rfl (by dsimp only; omega)) fun ts a' g3 g4 => ?_
      dsimp only at g3
      exact ⟨by dsimp only; omega, g4, rfl⟩
    · exact ⟨g1, g2, rfl⟩
theorem t_Ty (hT : Tn tk < LF) : ∀ n, TTy tk 1 n (pTy n tk) := by
  intro n
  induction n with
  | zero => intro ps _ _ h; omega
  | succ n ih =>
    intro ps h1 h2 h3
    refine to_gT ?_
    refine to_pbT (t_Arrs ih hT LF ps h1 h3 (by omega)) (fun e h => h) fun l a g1 g2 => ?_
    exact ⟨g1, g2, rfl⟩
end TOT
