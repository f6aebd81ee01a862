/-! the parser answers: patterns -/
section TOP
variable {α β : Type} {tk : TK} {ps ps1 ps' : PS} {Q : β → PS → Prop} {Q' : α → PS → Prop} {Qf : FT → Prop} {p : PA α} {F : α → PA β} {s n : Nat} {ty pat val opd : PA TR}
theorem to_pbQ (h : TO (QTy tk ps s) (FTy tk ps) (p ps)) (hf : ∀ e, FTy tk ps e → Qf e) (hF : ∀ v a, p ps = some (.inl (v, (a, ps.2))) → ps.1 + s ≤ a → a ≤ Tn tk → TO Q Qf (F v (a, ps.2))) : TO Q Qf (pb p F ps) := by
  unfold pb
  match hp : p ps, h with
  | none, h => exact h.elim
  | some (.inr e), h => exact hf e h
  | some (.inl (v, (a, s'))), h =>
    obtain ⟨h1, h2, h3⟩ := h
    dsimp only at h1 h2 h3
    subst h3
    exact hF v a hp h1 h2
theorem t_Ident {k : Int32} {q : Bool} (h1 : ps.1 ≤ Tn tk) : TO (fun v ps' => QTy tk ps 1 v ps' ∧ ∃ a b, v.2.1 = .int a ∧ v.2.2.1 = .int b) (FTy tk ps) (pIdent tk k q ps) := by
  unfold pIdent
  split
  · next h22 =>
    have hlt : ps.1 < Tn tk := sg_lt h22
    split
    · next h45 =>
      have hlt2 : ps.1 + 1 < Tn tk := sg_lt h45
      split
      · exact FTy.flt rfl (Nat.le_succ _) hlt
      · exact ⟨⟨by dsimp only; omega, hlt2, rfl⟩, 6, -1, rfl, rfl⟩
    · split
      · next hn => exact ⟨⟨by dsimp only; omega, nm_lt hn, rfl⟩, _, -1, rfl, rfl⟩
      · exact FTy.flt (ps1 := (ps.1 + 1, ps.2)) rfl (Nat.le_succ _) hlt
  · split
    · next h5 => exact ⟨⟨Nat.le_refl _, k_lt' h5 (by decide), rfl⟩, -1, _, rfl, rfl⟩
    · split
      · next hn =>
        rw [Bool.and_eq_true] at hn
        exact ⟨⟨Nat.le_refl _, nm_lt hn.1, rfl⟩, _, -1, rfl, rfl⟩
      · exact FTy.flt rfl (Nat.le_refl _) h1
theorem t_Brk (hv : TTy tk 1 n pat) (h1 : ps.1 < Tn tk) (h3 : 33 ≤ n + 1 + ps.2.1) (hT : Tn tk < LF) : TO (QTy tk ps 1) (FTy tk ps) (pBrk tk true pat ps) := by
  unfold pBrk
  refine to_enter (FTy.flt rfl (Nat.le_refl _) (Nat.le_of_lt h1)) fun ho => ?_
  refine to_adv h1 ?_
  dsimp only
  split
  · refine to_need (FTy.flt rfl (Nat.le_succ _) h1) fun hl => ?_
    exact ⟨by dsimp only; omega, hl, rfl⟩
  · refine to_pbT (hv (ps.1 + 1, ps.2.1 + 1, ps.2.2) h1 ho (by dsimp only; omega)) (fun e h => h.up rfl (Nat.le_succ _)) fun t a g1 g2 => ?_
    dsimp only at g1 ⊢
    split
    · refine to_pbT (t_Seps hv LF (a, ps.2.1 + 1, ps.2.2) g2 ho (by dsimp only; omega) (by dsimp only; omega)) (fun e h => h.up rfl (by dsimp only; omega)) fun ts a' g3 g4 => ?_
      dsimp only at g3 ⊢
      refine to_need (FTy.flt rfl (by dsimp only; omega) g4) fun hl => ?_
      exact ⟨by dsimp only; omega, hl, rfl⟩
    · split
      · next h => simp at h
      · refine to_need (FTy.flt rfl (by dsimp only; omega) g2) fun hl => ?_
        exact ⟨by dsimp only; omega, hl, rfl⟩
theorem t_Elms (hv : TTy tk 1 n pat) (h1 : ps.1 < Tn tk) (h3 : 33 ≤ n + 1 + ps.2.1) (hT : Tn tk < LF) : TO (QTy tk ps 1) (FTy tk ps) (pElms tk true pat ps) := by
  unfold pElms
  refine to_enter (FTy.flt rfl (Nat.le_refl _) (Nat.le_of_lt h1)) fun ho => ?_
  refine to_adv h1 ?_
  refine to_pbT (s := 0) (ps := (ps.1 + 1, ps.2.1 + 1, ps.2.2)) ?_ (fun e h => h.up rfl (Nat.le_succ _)) fun l a g1 g2 => ?_
  · dsimp only
    split
    · exact ⟨Nat.le_refl _, h1, rfl⟩
    · refine to_pbT (hv (ps.1 + 1, ps.2.1 + 1, ps.2.2) h1 ho (by dsimp only; omega)) (fun e h => h) fun t a g1 g2 => ?_
      dsimp only at g1 ⊢
      refine to_pbT (t_Seps hv LF (a, ps.2.1 + 1, ps.2.2) g2 ho (by dsimp only; omega) (by dsimp only; omega)) (fun e h => h.up rfl (by dsimp only; omega)) fun ts a' g3 g4 => ?_
      dsimp only at g3
      exact ⟨by dsimp only; omega, g4, rfl⟩
  · dsimp only at g1
    refine to_need (FTy.flt rfl (by dsimp only; omega) g2) fun hl => ?_
    exact ⟨by dsimp only; omega, hl, rfl⟩
theorem red1_len {q : Bool} {o : Int32 × Nat × Int32} {l : ODS} (h : 2 ≤ l.length) : (red1 q o l).length = l.length - 1 := by
  match l, h with
  | x :: y :: r, _ => rfl
theorem redA_ln {q : Bool} : ∀ (ops : OPS) (l : ODS), l.length = ops.length + 1 → (redA q ops l).length = 1 := by
  intro ops
  induction ops with
  | nil => intro l h; exact h
  | cons o ops ih =>
    intro l h
    rw [List.length_cons] at h
    exact ih _ (by rw [red1_len (by omega)]; omega)
theorem reds_len {q : Bool} {f : Int32} : ∀ (ops : OPS) (l : ODS) (r : OPS × ODS), l.length = ops.length + 1 → reds q f ops l = some r → r.2.length = r.1.length + 1 := by
  intro ops
  induction ops with
  | nil => intro l r h e; cases e; exact h
  | cons o ops ih =>
    intro l r h e
    unfold reds at e
    split at e
    · cases e
    · split at e
      · rw [List.length_cons] at h
        exact ih _ _ (by rw [red1_len (by omega)]; omega) e
      · cases e
        exact h
theorem opB_lt {q : Bool} (h : opB tk q ps = true) : ps.1 < Tn tk := by
  unfold opB at h
  rw [Bool.or_eq_true] at h
  rcases h with h | h
  · exact opr_lt h
  · rw [Bool.and_eq_true, Bool.and_eq_true] at h
    exact sg_lt h.1.2
theorem odsV_one {l : ODS} {ps : PS} (h : l.length = 1) : ∃ t, odsV l ps = some (.inl (t, ps)) := by
  match l, h with
  | [(t, b)], _ => exact ⟨t, rfl⟩
theorem t_Ops {q : Bool} (hv : ∀ ps : PS, ps.1 ≤ Tn tk → ps.2.1 ≤ 32 → 33 ≤ n + 1 + ps.2.1 → TO (QTy tk ps 1) (FTy tk ps) (opd ps)) : ∀ (m : Nat) (ops : OPS) (l : ODS) (ps : PS), l.length = ops.length + 1 → ps.1 ≤ Tn tk → ps.2.1 ≤ 32 → 33 ≤ n + 1 + ps.2.1 → Tn tk - ps.1 < m → TO (QTy tk ps 0) (FTy tk ps) (pOps tk q opd m ops l ps) := by
  intro m
  induction m with
  | zero => intro ops l ps _ _ _ _ h; omega
  | succ m ih =>
    intro ops l ps hl h1 h2 h3 hm
    unfold pOps
    split
    · next hb =>
      have hlt := opB_lt hb
      cases hr : reds q (fxA ps.2.2.2.1 (opV tk ps)) ops l with
      | none => exact FTy.flt rfl (Nat.le_refl _) h1
      | some r =>
        show TO _ _ (pb opd _ (ps.1 + 1, ps.2))
        refine to_pbT (hv (ps.1 + 1, ps.2) hlt h2 h3) (fun e h => h.up rfl (Nat.le_succ _)) fun t a g1 g2 => ?_
        dsimp only at g1
        exact to_mono (ih _ _ (a, ps.2) (by simp only [List.length_cons]; rw [reds_len _ _ _ hl hr]) g2 h2 h3 (by dsimp only; omega)) (fun _ ps' h => ⟨by have := h.1; dsimp only at this; omega, h.2⟩) (fun e h => h.up rfl (by dsimp only; omega))
    · obtain ⟨t, e⟩ := odsV_one (ps := ps) (redA_ln ops l hl)
      rw [e]
      exact ⟨Nat.le_refl _, h1, rfl⟩
theorem t_Inf {q : Bool} (hv : ∀ ps : PS, ps.1 ≤ Tn tk → ps.2.1 ≤ 32 → 33 ≤ n + 1 + ps.2.1 → TO (QTy tk ps 1) (FTy tk ps) (opd ps)) (h1 : ps.1 ≤ Tn tk) (h2 : ps.2.1 ≤ 32) (h3 : 33 ≤ n + 1 + ps.2.1) (hT : Tn tk < LF) : TO (QTy tk ps 1) (FTy tk ps) (pInf tk q opd ps) := by
  unfold pInf
  refine to_pbT (hv ps h1 h2 h3) (fun e h => h) fun t a g1 g2 => ?_
  exact to_mono (t_Ops hv LF [] _ (a, ps.2) rfl g2 h2 h3 (by dsimp only; omega)) (fun _ ps' h => ⟨by have := h.1; dsimp only at this; omega, h.2⟩) (fun e h => h.up rfl (by dsimp only; omega))
theorem t_Layer {v : Int32} {t : Option TR} {b : Nat} (hv : TTy tk 1 n pat) (h1 : ps.1 < Tn tk) (h3 : 33 ≤ n + 1 + ps.2.1) : TO (QTy tk ps 1) (FTy tk ps) (pLayer tk pat v t b ps) := by
  unfold pLayer
  refine to_enter (FTy.flt rfl (Nat.le_refl _) (Nat.le_of_lt h1)) fun ho => ?_
  split
  · exact FTy.flt rfl (Nat.le_refl _) (Nat.le_of_lt h1)
  · refine to_adv h1 ?_
    refine to_pbT (hv (ps.1 + 1, ps.2.1 + 1, ps.2.2) h1 ho (by dsimp only; omega)) (fun e h => h.up rfl (Nat.le_succ _)) fun p a g1 g2 => ?_
    dsimp only at g1
    exact ⟨by dsimp only [pLeave]; omega, g2, rfl⟩
theorem t_Opt {sn : Int32} (hv : TTy tk 1 n ty) (h1 : ps.1 ≤ Tn tk) (h2 : ps.2.1 ≤ 32) (h3 : 33 ≤ n + ps.2.1) : TO (QTy tk ps 0) (FTy tk ps) (pOpt tk sn ty ps) := by
  unfold pOpt
  split
  · next h =>
    have hlt : ps.1 < Tn tk := sg_lt h
    refine to_pbT (hv (ps.1 + 1, ps.2) hlt h2 h3) (fun e h => h.up rfl (Nat.le_succ _)) fun t a g1 g2 => ?_
    dsimp only at g1
    exact ⟨by dsimp only; omega, g2, rfl⟩
  · exact ⟨Nat.le_refl _, h1, rfl⟩
theorem t_Fpat {l : Int32} {b : Nat} (ht : TTy tk 1 40 ty) (hv : TTy tk 1 n pat) (h1 : ps.1 ≤ Tn tk) (h2 : ps.2.1 ≤ 32) (h3 : 33 ≤ n + ps.2.1) : TO (QTy tk ps 0) (FTy tk ps) (pFpat tk ty pat l b ps) := by
  unfold pFpat
  split
  · next h =>
    have hlt : ps.1 < Tn tk := sg_lt h
    exact to_mono (hv (ps.1 + 1, ps.2) hlt h2 h3) (fun _ ps' h => ⟨by have := h.1; dsimp only at this; omega, h.2⟩) (fun e h => h.up rfl (by dsimp only; omega))
  · split
    · refine to_pbT (t_Opt (sn := 40) ht h1 h2 (by omega)) (fun e h => h) fun t a g1 g2 => ?_
      unfold pFp2
      split
      · next h =>
        exact to_mono (t_Layer (ps := (a, ps.2)) hv (sg_lt h) (by dsimp only; omega)) (fun _ ps' h => ⟨by have := h.1; dsimp only at this; omega, h.2⟩) (fun e h => h.up rfl (by dsimp only; omega))
      · exact ⟨g1, g2, rfl⟩
    · exact FTy.flt rfl (Nat.le_refl _) h1
theorem t_Fps (ht : TTy tk 1 40 ty) (hv : TTy tk 1 n pat) : ∀ (m : Nat) (acc : List (Int32 × TR)) (ps : PS), ps.1 ≤ Tn tk → ps.2.1 ≤ 32 → 33 ≤ n + ps.2.1 → Tn tk - ps.1 < m → TO (QTy tk ps 1) (FTy tk ps) (pFps tk ty pat m acc ps) := by
  intro m
  induction m with
  | zero => intro acc ps _ _ _ h; omega
  | succ m ih =>
    intro acc ps h1 h2 h3 hm
    unfold pFps
    split
    · next h => exact ⟨Nat.le_refl _, sg_lt h, rfl⟩
    · split
      · next h =>
        have hlt := lab_lt' h
        split
        · exact FTy.flt rfl (Nat.le_refl _) h1
        · refine to_pbT (to_gQ (t_Fpat (ps := (ps.1 + 1, ps.2)) ht hv hlt h2 h3)) (fun e h => h.up rfl (Nat.le_succ _)) fun v a g1 g2 => ?_
          dsimp only at g1 ⊢
          split
          · next h39 =>
            have := sg_lt h39
            refine to_mono (ih _ (a + 1, ps.2) this h2 h3 (by dsimp only; omega)) (fun _ ps' h => ⟨by have := h.1; dsimp only at this; omega, h.2⟩) (fun e h => h.up rfl (by dsimp only; omega))
          · exact ⟨g1, g2, rfl⟩
      · exact FTy.flt rfl (Nat.le_refl _) h1
theorem t_RecP (ht : TTy tk 1 40 ty) (hv : TTy tk 1 n pat) (h1 : ps.1 < Tn tk) (h3 : 33 ≤ n + 1 + ps.2.1) (hT : Tn tk < LF) : TO (QTy tk ps 1) (FTy tk ps) (pRecP tk ty pat ps) := by
  unfold pRecP
  refine to_enter (FTy.flt rfl (Nat.le_refl _) (Nat.le_of_lt h1)) fun ho => ?_
  refine to_adv h1 ?_
  refine to_pbT (s := 0) (ps := (ps.1 + 1, ps.2.1 + 1, ps.2.2)) ?_ (fun e h => h.up rfl (Nat.le_succ _)) fun l a g1 g2 => ?_
  · dsimp only
    split
    · exact ⟨Nat.le_refl _, h1, rfl⟩
    · exact to_mono (t_Fps ht hv LF [] (ps.1 + 1, ps.2.1 + 1, ps.2.2) h1 ho (by dsimp only; omega) (by dsimp only; omega)) (fun _ _ h => ⟨by have := h.1; omega, h.2⟩) (fun _ h => h)
  · dsimp only at g1
    refine to_need (FTy.flt rfl (by dsimp only; omega) g2) fun hl => ?_
    exact ⟨by dsimp only; omega, hl, rfl⟩
theorem t_Apat (ht : TTy tk 1 40 ty) (hv : TTy tk 1 n pat) (hT : Tn tk < LF) (h1 : ps.1 ≤ Tn tk) (h3 : 33 ≤ n + 1 + ps.2.1) : TO (QTy tk ps 1) (FTy tk ps) (pApat tk ty pat ps) := by
  refine to_gT ?_
  split
  · next h => exact ⟨Nat.le_refl _, cst_lt h, rfl⟩
  · split
    · exact to_mono (t_Ident h1) (fun _ _ h => h.1) (fun _ h => h)
    · next h =>
      have hk : kAt tk ps.1 = 1 := by
        simp only [Bool.or_eq_true, Bool.not_eq_true', decide_eq_false_iff_not, not_or, Decidable.not_not] at h
        exact h.1
      have hlt : ps.1 < Tn tk := k_lt' hk (by decide)
      split
      · exact ⟨Nat.le_refl _, hlt, rfl⟩
      · split
        · exact t_RecP ht hv hlt h3 hT
        · split
          · exact t_Brk hv hlt h3 hT
          · split
            · exact t_Elms hv hlt h3 hT
            · exact FTy.flt rfl (Nat.le_refl _) h1
theorem apat_id {p : TR} (hc : (sg tk ps.1 22 || nmB tk ps.1 || decide (kAt tk ps.1 = 5)) = true) (h1 : ps.1 ≤ Tn tk) (h : pApat tk ty pat ps = some (.inl (p, ps'))) : ∃ a b, p.2.1 = .int a ∧ p.2.2.1 = .int b := by
  have h := (grT_ok h).1
  have ec : cstB tk ps.1 = false := by
    simp only [Bool.or_eq_true, decide_eq_true_eq, nmB, sg, Bool.and_eq_true] at hc
    rcases hc with (⟨h, _⟩ | h | h) | h <;> simp [cstB, h]
  have ek : (!decide (kAt tk ps.1 = 1) || sg tk ps.1 22) = true := by
    cases h22 : sg tk ps.1 22 with
    | true => rw [Bool.or_true]
    | false =>
      rw [h22, Bool.false_or] at hc
      simp only [Bool.or_eq_true, decide_eq_true_eq, nmB] at hc
      rcases hc with (h | h) | h <;> simp [h]
  rw [ec, if_neg (by decide), ek, if_pos rfl] at h
  have := t_Ident (tk := tk) (k := 32) (q := true) h1
  rw [h] at this
  exact this.2
theorem t_Appl (ht : TTy tk 1 40 ty) (hv : TTy tk 1 n pat) (hT : Tn tk < LF) (h1 : ps.1 ≤ Tn tk) (h3 : 33 ≤ n + 1 + ps.2.1) : TO (QTy tk ps 1) (FTy tk ps) (pAppl tk ty pat ps) := by
  refine to_gT ?_
  refine to_pbQ (t_Apat ht hv hT h1 h3) (fun e h => h) fun p a hp g1 g2 => ?_
  split
  · next hc =>
    rw [Bool.and_eq_true] at hc
    obtain ⟨x, y, e1, e2⟩ := apat_id hc.1 h1 hp
    rw [e1, e2]
    show TO _ _ (pb (pApat tk ty pat) (fun o => pret ((35, .int x, .int y, tv o, nI ps.1) : TR)) (a, ps.2))
    refine to_pbT (t_Apat (ps := (a, ps.2)) ht hv hT g2 h3) (fun e h => h.up rfl (by dsimp only; omega)) fun o a' g3 g4 => ?_
    dsimp only at g3
    exact ⟨by dsimp only; omega, g4, rfl⟩
  · exact ⟨g1, g2, rfl⟩
theorem t_Cols (ht : TTy tk 1 40 ty) : ∀ (m : Nat) (ps : PS), ps.1 ≤ Tn tk → ps.2.1 ≤ 32 → Tn tk - ps.1 < m → TO (QTy tk ps 0) (FTy tk ps) (pCols tk ty m ps) := by
  intro m
  induction m with
  | zero => intro ps _ _ h; omega
  | succ m ih =>
    intro ps h1 h2 hm
    unfold pCols
    split
    · next h =>
      have hlt : ps.1 < Tn tk := sg_lt h
      refine to_pbT (ht (ps.1 + 1, ps.2) hlt h2 (by dsimp only; omega)) (fun e h => h.up rfl (by dsimp only; omega)) fun v a g1 g2 => ?_
      dsimp only at g1 ⊢
      refine to_pbT (ih (a, ps.2) g2 h2 (by dsimp only; omega)) (fun e h => h.up rfl (by dsimp only; omega)) fun ts a' g3 g4 => ?_
      dsimp only at g3
      exact ⟨by dsimp only; omega, g4, rfl⟩
    · exact ⟨Nat.le_refl _, h1, rfl⟩
theorem t_Pat (hkp : KP tk pat) (ht : TTy tk 1 40 ty) (hv : TTy tk 1 n pat) (hT : Tn tk < LF) (h1 : ps.1 ≤ Tn tk) (h2 : ps.2.1 ≤ 32) (h3 : 33 ≤ n + 1 + ps.2.1) : TO (QTy tk ps 1) (FTy tk ps) (pPat tk ty pat ps) := by
  refine to_gT ?_
  refine to_pbQ (to_gT (t_Inf (fun ps h1 h2 h3 => t_Appl ht hv hT h1 h3) h1 h2 h3 hT)) (fun e h => h) fun t a hp g1 g2 => ?_
  have hk := (kp_inf hkp).gT ps t (a, ps.2) hp
  dsimp only
  split
  · next h =>
    obtain ⟨i, e⟩ := hk.1 h.1
    rw [e] at h
    cases h.2
  · refine to_pbT (t_Cols ht LF (a, ps.2) g2 h2 (by dsimp only; omega)) (fun e h => h.up rfl (by dsimp only; omega)) fun ts a' g3 g4 => ?_
    dsimp only at g3 ⊢
    split
    · next h4 =>
      split
      · exact to_mono (t_Layer (ps := (a', ps.2)) hv (sg_lt h4) h3) (fun _ ps' h => ⟨by have := h.1; dsimp only at this; omega, h.2⟩) (fun e h => h.up rfl (by dsimp only; omega))
      · exact FTy.flt (ps1 := (a', ps.2)) rfl (by dsimp only; omega) g4
    · exact ⟨by dsimp only; omega, g4, rfl⟩
theorem t_Pt (hT : Tn tk < LF) : ∀ n, TTy tk 1 n (pPt n tk) := by
  intro n
  induction n with
  | zero => intro ps _ _ h; omega
  | succ n ih => exact fun ps h1 h2 h3 => t_Pat (kp_pt n) (t_Ty hT 40) ih hT h1 h2 h3
end TOP
