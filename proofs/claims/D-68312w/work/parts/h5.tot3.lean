/-! the parser answers: expressions -/
def Go (tk : TK) (ps : PS) : Prop := ps.1 ≤ Tn tk ∧ ps.2.1 ≤ 32 ∧ psOK ps.2.2.2 ∧ ps.2.2.1 + ps.2.2.2.2.1.length ≤ ps.1
def RE (tk : TK) (s : Nat) (ps ps' : PS) : Prop := ps.1 + s ≤ ps'.1 ∧ ps'.1 ≤ Tn tk ∧ ps'.2.1 = ps.2.1 ∧ ps'.2.2.1 + ps'.2.2.2.2.1.length + ps.1 ≤ ps.2.2.1 + ps.2.2.2.2.1.length + ps'.1 ∧ ps.2.2.2.2.1.length ≤ ps'.2.2.2.2.1.length ∧ psOK ps'.2.2.2
def QE {α : Type} (tk : TK) (ps : PS) (s : Nat) : α → PS → Prop := fun _ ps' => RE tk s ps ps'
def FE (tk : TK) : FT → Prop := fun e => psOK e.2.2 ∧ e.2.2.2.1.length ≤ e.2.1 ∧ e.2.1 ≤ Tn tk
def EE {α : Type} (tk : TK) (m s : Nat) (p : PA α) : Prop := ∀ ps : PS, Go tk ps → m ≤ ps.2.1 → TO (QE tk ps s) (FE tk) (p ps)
section TOE
variable {α β : Type} {tk : TK} {ps ps1 ps' : PS} {Q : β → PS → Prop} {p : PA α} {F : α → PA β} {s s' n m : Nat} {ty pat val opd E D e3 e4 inf atom : PA TR}
theorem Go.nx (h : Go tk ps) (r : RE tk s ps ps') : Go tk ps' := by
  obtain ⟨h1, h2, h3, h4⟩ := h
  obtain ⟨r1, r2, r3, r4, r5, r6⟩ := r
  exact ⟨r2, by omega, r6, by omega⟩
theorem Go.one (h : Go tk ps) (hl : ps.1 < Tn tk) : Go tk (ps.1 + 1, ps.2) := ⟨hl, h.2.1, h.2.2.1, by have := h.2.2.2; dsimp only; omega⟩
theorem Go.op (h : Go tk ps) (hl : ps.1 < Tn tk) (ho : ps.2.1 < 32) : Go tk (ps.1 + 1, ps.2.1 + 1, ps.2.2) := ⟨hl, ho, h.2.2.1, by have := h.2.2.2; dsimp only; omega⟩
theorem Go.flt (h : Go tk ps) (k : Int32) : FE tk (k, ps.1, ps.2.2.2) := ⟨h.2.2.1, by have := h.2.2.2; dsimp only; omega, h.1⟩
theorem RE.rf (h : Go tk ps) : RE tk 0 ps ps := ⟨Nat.le_refl _, h.1, rfl, Nat.le_refl _, Nat.le_refl _, h.2.2.1⟩
theorem RE.one (h : Go tk ps) (hl : ps.1 < Tn tk) : RE tk 1 ps (ps.1 + 1, ps.2) := ⟨Nat.le_refl _, hl, rfl, by dsimp only; omega, Nat.le_refl _, h.2.2.1⟩
theorem RE.tr {b : PS} (h : RE tk s ps b) (h' : RE tk s' b ps') : RE tk (s + s') ps ps' := by
  obtain ⟨a1, a2, a3, a4, a5, a6⟩ := h
  obtain ⟨b1, b2, b3, b4, b5, b6⟩ := h'
  exact ⟨by omega, b2, by omega, by omega, by omega, b6⟩
theorem RE.wk (h : RE tk s ps ps') (hs : s' ≤ s) : RE tk s' ps ps' := ⟨by have := h.1; omega, h.2⟩
/-- out of brackets -/
theorem RE.out (h : RE tk s (ps.1 + 1, ps.2.1 + 1, ps.2.2) ps') : RE tk (s + 1) ps (ps'.1, ps'.2.1 - 1, ps'.2.2) := by
  obtain ⟨a1, a2, a3, a4, a5, a6⟩ := h
  dsimp only at a1 a3 a4 a5
  exact ⟨by dsimp only; omega, a2, by dsimp only; omega, by dsimp only; omega, a5, a6⟩
theorem to_pbE (hg : Go tk ps) (h : TO (QE tk ps s) (FE tk) (p ps)) (hF : ∀ v ps', RE tk s ps ps' → Go tk ps' → TO Q (FE tk) (F v ps')) : TO Q (FE tk) (pb p F ps) := to_pb h fun v ps' r => hF v ps' r (hg.nx r)
theorem te_T {q : PR α} (hg : Go tk ps) (h : TO (QTy tk ps s) (FTy tk ps) q) : TO (QE tk ps s) (FE tk) q := by
  obtain ⟨g1, g2, g3, g4⟩ := hg
  refine to_mono h (fun v ps' h => ?_) (fun e h => ?_)
  · obtain ⟨a, t⟩ := ps'
    obtain ⟨h1, h2, h3⟩ := h
    dsimp only at h1 h2 h3
    subst h3
    exact ⟨h1, h2, rfl, by dsimp only; omega, Nat.le_refl _, g3⟩
  · obtain ⟨h1, h2, h3⟩ := h
    exact ⟨by rw [h1]; exact g3, by rw [h1]; omega, h3⟩
theorem te_tr {q : PR α} (r : RE tk s ps ps1) (h : TO (QE tk ps1 s') (FE tk) q) : TO (QE tk ps (s + s')) (FE tk) q := to_mono h (fun _ _ h => r.tr h) (fun _ h => h)
theorem te_wk {q : PR α} (h : TO (QE tk ps s) (FE tk) q) (hs : s' ≤ s) : TO (QE tk ps s') (FE tk) q := to_mono h (fun _ _ h => RE.wk h hs) (fun _ h => h)
theorem te_gE (hg : Go tk ps) (h : TO (QE tk ps (s + 1)) (FE tk) (p ps)) : TO (QE tk ps (s + 1)) (FE tk) (grE tk p ps) := by
  unfold grE
  match hp : p ps, h with
  | none, h => exact h.elim
  | some (.inr e), h => exact h
  | some (.inl (v, ps')), h =>
    obtain ⟨a1, a2, a3, a4, a5, a6⟩ := id h
    have : PG tk ps ps' := ⟨by omega, a2, a3, by omega, a6⟩
    dsimp only
    rw [if_pos this]
    exact h
theorem te_gD (hg : Go tk ps) (h : TO (QE tk ps s) (FE tk) (p ps)) : TO (QE tk ps s) (FE tk) (grD tk p ps) := by
  unfold grD
  match hp : p ps, h with
  | none, h => exact h.elim
  | some (.inr e), h => exact h
  | some (.inl (v, ps')), h =>
    obtain ⟨a1, a2, a3, a4, a5, a6⟩ := id h
    have : PGe tk ps ps' := ⟨by omega, a2, a3, by omega, a6⟩
    dsimp only
    rw [if_pos this]
    exact h
theorem e_More {sn : Int32} (hT : Tn tk < LF) (hp : EE tk m 1 p) : ∀ (N : Nat) (ps : PS), Go tk ps → m ≤ ps.2.1 → Tn tk - ps.1 < N → TO (QE tk ps 1) (FE tk) (pMore tk sn p N ps) := by
  intro N
  induction N with
  | zero => intro ps _ _ h; omega
  | succ N ih =>
    intro ps hg hm hN
    unfold pMore
    refine to_pbE hg (hp ps hg hm) fun t ps1 r1 g1 => ?_
    split
    · next h =>
      have hl : ps1.1 < Tn tk := sg_lt h
      have r2 := RE.one g1 hl
      have hr := r1.2.2.1
      have hr1 := r1.1
      refine to_pbE (g1.one hl) (ih (ps1.1 + 1, ps1.2) (g1.one hl) (by dsimp only; omega) (by dsimp only; omega)) fun l ps2 r3 g2 => ?_
      exact ((r1.tr r2).tr r3).wk (by omega)
    · exact r1
theorem e_Seps {sn : Int32} (hp : EE tk m 1 E) : ∀ (N : Nat) (ps : PS), Go tk ps → m ≤ ps.2.1 → Tn tk - ps.1 < N → TO (QE tk ps 0) (FE tk) (pSeps tk sn E N ps) := by
  intro N
  induction N with
  | zero => intro ps _ _ h; omega
  | succ N ih =>
    intro ps hg hm hN
    unfold pSeps
    split
    · next h =>
      have hl : ps.1 < Tn tk := sg_lt h
      refine to_pbE (hg.one hl) (hp (ps.1 + 1, ps.2) (hg.one hl) hm) fun t ps1 r1 g1 => ?_
      have hr := r1.2.2.1
      have hr1 := r1.1
      dsimp only at hr hr1
      refine to_pbE g1 (ih ps1 g1 (by omega) (by omega)) fun l ps2 r3 g2 => ?_
      exact (((RE.one hg hl).tr r1).tr r3).wk (by omega)
    · exact RE.rf hg
theorem e_Rul (hpt : TTy tk 1 40 pat) (hE : EE tk m 1 E) : EE tk m 1 (pRul tk pat E) := by
  intro ps hg hm
  unfold pRul
  refine to_pbE hg (te_T hg (hpt ps hg.1 hg.2.1 (by omega))) fun t ps1 r1 g1 => ?_
  refine to_need (g1.flt 1) fun hl => ?_
  have hr := r1.2.2.1
  refine to_pbE (g1.one hl) (hE (ps1.1 + 1, ps1.2) (g1.one hl) (by dsimp only; omega)) fun e ps2 r2 g2 => ?_
  exact ((r1.tr (RE.one g1 hl)).tr r2).wk (by omega)
theorem e_Mch (hT : Tn tk < LF) (hpt : TTy tk 1 40 pat) (hE : EE tk m 1 E) : EE tk m 1 (pMch tk pat E) := fun ps hg hm => te_gE hg (e_More hT (e_Rul hpt hE) LF ps hg hm (by omega))
theorem e_Case {b : Nat} (hT : Tn tk < LF) (hpt : TTy tk 1 40 pat) (hE : EE tk m 1 E) : EE tk m 1 (pCase tk pat E b) := by
  intro ps hg hm
  unfold pCase
  refine to_pbE hg (hE ps hg hm) fun t ps1 r1 g1 => ?_
  refine to_need (g1.flt 1) fun hl => ?_
  have hr := r1.2.2.1
  refine to_pbE (g1.one hl) (e_Mch hT hpt hE (ps1.1 + 1, ps1.2) (g1.one hl) (by dsimp only; omega)) fun e ps2 r2 g2 => ?_
  exact ((r1.tr (RE.one g1 hl)).tr r2).wk (by omega)
theorem e_Choi {b : Nat} (hE : EE tk m 1 E) : EE tk m 1 (pChoi tk E b) := by
  intro ps hg hm
  unfold pChoi
  refine to_pbE hg (hE ps hg hm) fun t ps1 r1 g1 => ?_
  refine to_need (g1.flt 1) fun hl => ?_
  have hr := r1.2.2.1
  refine to_pbE (g1.one hl) (hE (ps1.1 + 1, ps1.2) (g1.one hl) (by dsimp only; omega)) fun e ps2 r2 g2 => ?_
  refine to_need (g2.flt 1) fun hl2 => ?_
  have hr2 := r2.2.2.1
  dsimp only at hr2
  refine to_pbE (g2.one hl2) (hE (ps2.1 + 1, ps2.2) (g2.one hl2) (by dsimp only; omega)) fun e ps3 r3 g3 => ?_
  exact ((((r1.tr (RE.one g1 hl)).tr r2).tr (RE.one g2 hl2)).tr r3).wk (by omega)
theorem e_Loop {b : Nat} (hE : EE tk m 1 E) : EE tk m 1 (pLoop tk E b) := by
  intro ps hg hm
  unfold pLoop
  refine to_pbE hg (hE ps hg hm) fun t ps1 r1 g1 => ?_
  refine to_need (g1.flt 1) fun hl => ?_
  have hr := r1.2.2.1
  refine to_pbE (g1.one hl) (hE (ps1.1 + 1, ps1.2) (g1.one hl) (by dsimp only; omega)) fun e ps2 r2 g2 => ?_
  obtain ⟨a1, a2, a3, a4, a5, a6⟩ := r1
  obtain ⟨b1, b2, b3, b4, b5, b6⟩ := r2
  dsimp only at b1 b3 b4 b5
  exact ⟨by dsimp only; omega, b2, by dsimp only; omega, by dsimp only; omega, by dsimp only; omega, b6⟩
theorem e_Form (hT : Tn tk < LF) (hpt : TTy tk 1 40 pat) (hE : EE tk (m + 1) 1 E) (hg : Go tk ps) (hm : m ≤ ps.2.1) (hl : ps.1 < Tn tk) : TO (QE tk ps 1) (FE tk) (pForm tk pat E ps) := by
  unfold pForm
  refine to_enter (hg.flt 5) fun ho => ?_
  refine to_adv hl ?_
  have g1 := hg.op hl ho
  refine to_pbE (s := 1) g1 (te_gE g1 ?_) fun t ps2 r2 g2 => ?_
  · split
    · refine to_pbE g1 (e_Mch hT hpt hE _ g1 (by dsimp only; omega)) fun l ps2 r2 g2 => ?_
      exact r2
    · split
      · exact e_Case hT hpt hE _ g1 (by dsimp only; omega)
      · split
        · refine to_pbE g1 (hE _ g1 (by dsimp only; omega)) fun l ps2 r2 g2 => ?_
          exact r2
        · split
          · exact e_Choi hE _ g1 (by dsimp only; omega)
          · exact e_Loop hE _ g1 (by dsimp only; omega)
  · exact r2.out.wk (by omega)
theorem e_Et {lv : Int32} {b : Nat} (hT : Tn tk < LF) (hty : TTy tk 1 40 ty) (hpt : TTy tk 1 40 pat) (hE : EE tk (m + 1) 1 E) (h4 : lv ≤ 3 → EE tk m 1 e4) (h3 : lv ≤ 2 → EE tk m 1 e3) : ∀ (N : Nat) (e : TR) (ps : PS), Go tk ps → m ≤ ps.2.1 → Tn tk - ps.1 < N → TO (QE tk ps 0) (FE tk) (pEt tk lv ty pat E e3 e4 b N e ps) := by
  intro N
  induction N with
  | zero => intro e ps _ _ h; omega
  | succ N ih =>
    intro e ps hg hm hN
    unfold pEt
    split
    · next h =>
      have hl : ps.1 < Tn tk := sg_lt h
      have g1 := hg.one hl
      refine to_pbE g1 (te_T g1 (hty _ g1.1 g1.2.1 (by omega))) fun t ps1 r1 g2 => ?_
      have r := (RE.one hg hl).tr r1
      exact te_wk (te_tr r (ih _ ps1 g2 (by have := r.2.2.1; omega) (by have := r.1; omega))) (Nat.zero_le _)
    · split
      · next h =>
        rw [Bool.and_eq_true, decide_eq_true_eq] at h
        have hl : ps.1 < Tn tk := sg_lt h.2
        have g1 := hg.one hl
        refine to_pbE g1 (h4 h.1 _ g1 hm) fun t ps1 r1 g2 => ?_
        have r := (RE.one hg hl).tr r1
        exact te_wk (te_tr r (ih _ ps1 g2 (by have := r.2.2.1; omega) (by have := r.1; omega))) (Nat.zero_le _)
      · split
        · next h =>
          rw [Bool.and_eq_true, decide_eq_true_eq] at h
          have hl : ps.1 < Tn tk := sg_lt h.2
          have g1 := hg.one hl
          refine to_pbE g1 (h3 h.1 _ g1 hm) fun t ps1 r1 g2 => ?_
          have r := (RE.one hg hl).tr r1
          exact te_wk (te_tr r (ih _ ps1 g2 (by have := r.2.2.1; omega) (by have := r.1; omega))) (Nat.zero_le _)
        · split
          · next h =>
            rw [Bool.and_eq_true] at h
            have hl : ps.1 < Tn tk := sg_lt h.2
            refine to_enter (hg.flt 5) fun ho => ?_
            refine to_adv hl ?_
            have g1 := hg.op hl ho
            refine to_pbE g1 (e_Mch hT hpt hE _ g1 (by dsimp only; omega)) fun l ps1 r1 g2 => ?_
            have r := RE.out (ps := ps) r1
            exact te_wk (te_tr r (ih _ (ps1.1, ps1.2.1 - 1, ps1.2.2) (hg.nx r) (by have := r.2.2.1; dsimp only at this ⊢; omega) (by have := r.1; dsimp only at this ⊢; omega))) (Nat.zero_le _)
          · exact RE.rf hg
theorem e_El {lv : Int32} (hT : Tn tk < LF) (hty : TTy tk 1 40 ty) (hpt : TTy tk 1 40 pat) (hE : EE tk (m + 1) 1 E) (hI : EE tk m 1 inf) (h4 : lv ≤ 3 → EE tk m 1 e4) (h3 : lv ≤ 2 → EE tk m 1 e3) : EE tk m 1 (pEl tk lv ty pat E inf e3 e4) := by
  intro ps hg hm
  refine te_gE (s := 0) hg ?_
  split
  · next h => exact e_Form hT hpt hE hg hm (fm_lt h).2
  · refine to_pbE (s := 1) hg (te_gE (s := 0) hg (hI ps hg hm)) fun e ps1 r1 g1 => ?_
    exact te_wk (te_tr r1 (e_Et hT hty hpt hE h4 h3 LF e ps1 g1 (by have := r1.2.2.1; omega) (by omega))) (by omega)
theorem e_E0 (hT : Tn tk < LF) (hty : TTy tk 1 40 ty) (hpt : TTy tk 1 40 pat) (hE : EE tk (m + 1) 1 E) (hI : EE tk m 1 inf) : EE tk m 1 (pE0 tk ty pat E inf) := by
  have h4 : EE tk m 1 (pEl tk 4 ty pat E inf (fun _ => none) (fun _ => none)) := e_El hT hty hpt hE hI (fun h => absurd h (by decide)) (fun h => absurd h (by decide))
  have h3 : EE tk m 1 (pEl tk 3 ty pat E inf (fun _ => none) (pEl tk 4 ty pat E inf (fun _ => none) (fun _ => none))) := e_El hT hty hpt hE hI (fun _ => h4) (fun h => absurd h (by decide))
  exact e_El hT hty hpt hE hI (fun _ => h4) (fun _ => h3)
theorem begA_lt (h : begA tk ps = true) : ps.1 < Tn tk := by
  refine k_lt fun e => ?_
  simp [begA, nmB, cstB, sg, e] at h
theorem e_Apps {b : Nat} (ha : EE tk m 1 atom) : ∀ (N : Nat) (t : TR) (ps : PS), Go tk ps → m ≤ ps.2.1 → Tn tk - ps.1 < N → TO (QE tk ps 0) (FE tk) (pApps tk atom b N t ps) := by
  intro N
  induction N with
  | zero => intro t ps _ _ h; omega
  | succ N ih =>
    intro t ps hg hm hN
    unfold pApps
    split
    · next h =>
      refine to_pbE hg (ha ps hg hm) fun a ps1 r1 g1 => ?_
      have := begA_lt h
      exact te_wk (te_tr r1 (ih _ ps1 g1 (by have := r1.2.2.1; omega) (by have := r1.1; omega))) (Nat.zero_le _)
    · exact RE.rf hg
theorem e_App (hT : Tn tk < LF) (ha : EE tk m 1 atom) : EE tk m 1 (pApp tk atom) := by
  intro ps hg hm
  refine te_gE (s := 0) hg ?_
  refine to_pbE hg (ha ps hg hm) fun e ps1 r1 g1 => ?_
  exact te_wk (te_tr r1 (e_Apps ha LF e ps1 g1 (by have := r1.2.2.1; omega) (by omega))) (by omega)
theorem e_Ops {q : Bool} (ho : EE tk m 1 opd) : ∀ (N : Nat) (ops : OPS) (l : ODS) (ps : PS), l.length = ops.length + 1 → Go tk ps → m ≤ ps.2.1 → Tn tk - ps.1 < N → TO (QE tk ps 0) (FE tk) (pOps tk q opd N ops l ps) := by
  intro N
  induction N with
  | zero => intro ops l ps _ _ _ h; omega
  | succ N ih =>
    intro ops l ps hl hg hm hN
    unfold pOps
    split
    · next hb =>
      have hlt := opB_lt hb
      cases hr : reds q (fxA ps.2.2.2.1 (opV tk ps)) ops l with
      | none => exact hg.flt 4
      | some r =>
        show TO _ _ (pb opd _ (ps.1 + 1, ps.2))
        refine to_pbE (hg.one hlt) (ho _ (hg.one hlt) hm) fun t ps1 r1 g1 => ?_
        have r2 := (RE.one hg hlt).tr r1
        exact te_wk (te_tr r2 (ih _ _ ps1 (by simp only [List.length_cons]; rw [reds_len _ _ _ hl hr]) g1 (by have := r2.2.2.1; omega) (by have := r2.1; omega))) (Nat.zero_le _)
    · obtain ⟨t, e⟩ := odsV_one (ps := ps) (redA_ln ops l hl)
      rw [e]
      exact RE.rf hg
theorem e_Inf {q : Bool} (hT : Tn tk < LF) (ho : EE tk m 1 opd) : EE tk m 1 (pInf tk q opd) := by
  intro ps hg hm
  unfold pInf
  refine to_pbE hg (ho ps hg hm) fun e ps1 r1 g1 => ?_
  exact te_wk (te_tr r1 (e_Ops ho LF [] _ ps1 rfl g1 (by have := r1.2.2.1; omega) (by omega))) (by omega)
theorem e_Flds {fk sn : Int32} (hE : EE tk m 1 E) : ∀ (N : Nat) (acc : List (Int32 × TR)) (ps : PS), Go tk ps → m ≤ ps.2.1 → Tn tk - ps.1 < N → TO (QE tk ps 1) (FE tk) (pFlds tk fk sn E N acc ps) := by
  intro N
  induction N with
  | zero => intro acc ps _ _ h; omega
  | succ N ih =>
    intro acc ps hg hm hN
    unfold pFlds
    split
    · next h =>
      have hlt := lab_lt' h
      have g1 := hg.one hlt
      have r0 := RE.one hg hlt
      split
      · exact hg.flt 2
      · refine to_need (g1.flt 1) fun hl2 => ?_
        have g2 := g1.one hl2
        have r1 := r0.tr (RE.one g1 hl2)
        refine to_pbE g2 (hE _ g2 hm) fun v ps1 r2 g3 => ?_
        have r3 := r1.tr r2
        dsimp only
        split
        · next h39 =>
          have hl3 : ps1.1 < Tn tk := sg_lt h39
          have r4 := r3.tr (RE.one g3 hl3)
          exact te_wk (te_tr r4 (ih _ _ (g3.one hl3) (by have := r3.2.2.1; dsimp only; omega) (by have := r3.1; dsimp only; omega))) (by omega)
        · exact r3.wk (by omega)
    · exact hg.flt 1
theorem e_RecE (hT : Tn tk < LF) (hE : EE tk (m + 1) 1 E) (hg : Go tk ps) (hm : m ≤ ps.2.1) (hl : ps.1 < Tn tk) : TO (QE tk ps 1) (FE tk) (pRecE tk E ps) := by
  unfold pRecE
  refine to_enter (hg.flt 5) fun ho => ?_
  refine to_adv hl ?_
  have g1 := hg.op hl ho
  refine to_pbE (s := 0) g1 ?_ fun l ps1 r1 g2 => ?_
  · dsimp only
    split
    · exact RE.rf g1
    · exact te_wk (e_Flds hE LF [] _ g1 (by dsimp only; omega) (by dsimp only; omega)) (Nat.zero_le _)
  · refine to_need (g2.flt 1) fun hl2 => ?_
    exact (r1.tr (RE.one g2 hl2)).out.wk (by omega)
theorem e_Brk (hT : Tn tk < LF) (hE : EE tk (m + 1) 1 E) (hg : Go tk ps) (hm : m ≤ ps.2.1) (hl : ps.1 < Tn tk) : TO (QE tk ps 1) (FE tk) (pBrk tk false E ps) := by
  unfold pBrk
  refine to_enter (hg.flt 5) fun ho => ?_
  refine to_adv hl ?_
  have g1 := hg.op hl ho
  dsimp only
  split
  · refine to_need (g1.flt 1) fun hl2 => ?_
    exact (RE.one g1 hl2).out.wk (by omega)
  · refine to_pbE g1 (hE _ g1 (by dsimp only; omega)) fun t ps1 r1 g2 => ?_
    have o1 := r1.2.2.1
    dsimp only at o1 ⊢
    split
    · refine to_pbE g2 (e_Seps hE LF ps1 g2 (by omega) (by omega)) fun ts ps2 r2 g3 => ?_
      refine to_need (g3.flt 1) fun hl2 => ?_
      exact ((r1.tr r2).tr (RE.one g3 hl2)).out.wk (by omega)
    · split
      · refine to_pbE g2 (e_Seps hE LF ps1 g2 (by omega) (by omega)) fun ts ps2 r2 g3 => ?_
        refine to_need (g3.flt 1) fun hl2 => ?_
        exact ((r1.tr r2).tr (RE.one g3 hl2)).out.wk (by omega)
      · refine to_need (g2.flt 1) fun hl2 => ?_
        exact (r1.tr (RE.one g2 hl2)).out.wk (by omega)
theorem e_Elms (hT : Tn tk < LF) (hE : EE tk (m + 1) 1 E) (hg : Go tk ps) (hm : m ≤ ps.2.1) (hl : ps.1 < Tn tk) : TO (QE tk ps 1) (FE tk) (pElms tk false E ps) := by
  unfold pElms
  refine to_enter (hg.flt 5) fun ho => ?_
  refine to_adv hl ?_
  have g1 := hg.op hl ho
  refine to_pbE (s := 0) g1 ?_ fun l ps1 r1 g2 => ?_
  · dsimp only
    split
    · exact RE.rf g1
    · refine to_pbE g1 (hE _ g1 (by dsimp only; omega)) fun t ps1 r1 g2 => ?_
      have o1 := r1.2.2.1
      dsimp only at o1 ⊢
      refine to_pbE g2 (e_Seps hE LF ps1 g2 (by omega) (by omega)) fun ts ps2 r2 g3 => ?_
      exact (r1.tr r2).wk (by omega)
  · refine to_need (g2.flt 1) fun hl2 => ?_
    exact (r1.tr (RE.one g2 hl2)).out.wk (by omega)
theorem e_Sel (hg : Go tk ps) (hl : ps.1 < Tn tk) : TO (QE tk ps 1) (FE tk) (pSel tk ps) := by
  unfold pSel
  refine to_adv hl ?_
  have g1 := hg.one hl
  dsimp only
  split
  · next h =>
    have hl2 := lab_lt' h
    obtain ⟨h1, h2, h3, h4⟩ := hg
    exact ⟨by dsimp only; omega, hl2, rfl, by dsimp only; omega, Nat.le_refl _, h3⟩
  · exact g1.flt 1
theorem fxBk_ln {mark : Nat} {q : FXS} : (fxBk mark q).2.1.length = min mark q.2.1.length := by
  simp [fxBk]
theorem e_Let (hT : Tn tk < LF) (hE : EE tk (m + 1) 1 E) (hD : EE tk (m + 1) 0 D) (hg : Go tk ps) (hm : m ≤ ps.2.1) (hl : ps.1 < Tn tk) : TO (QE tk ps 1) (FE tk) (pLet tk E D ps) := by
  unfold pLet
  refine to_enter (hg.flt 5) fun ho => ?_
  refine to_adv hl ?_
  have g1 := hg.op hl ho
  refine to_pbE g1 (hD _ g1 (by dsimp only; omega)) fun d ps1 r1 g2 => ?_
  have o1 := r1.2.2.1
  dsimp only at o1
  refine to_need (g2.flt 1) fun hl2 => ?_
  have g3 := g2.one hl2
  refine to_pbE g3 (hE _ g3 (by dsimp only; omega)) fun e ps2 r2 g4 => ?_
  have o2 := r2.2.2.1
  dsimp only at o2
  refine to_pbE g4 (e_Seps hE LF ps2 g4 (by omega) (by omega)) fun es ps3 r3 g5 => ?_
  refine to_need (g5.flt 1) fun hl3 => ?_
  have r := RE.out (ps := ps) ((((r1.tr (RE.one g2 hl2)).tr r2).tr r3).tr (RE.one g5 hl3))
  obtain ⟨a1, a2, a3, a4, a5, a6⟩ := r
  dsimp only at a1 a3 a4 a5 a6
  have hq : psOK (fxBk ps.2.2.2.2.1.length ps3.2.2.2) := fxBk_ok a6
  have hlen : (fxBk ps.2.2.2.2.1.length ps3.2.2.2).2.1.length = ps.2.2.2.2.1.length := by
    rw [fxBk_ln]
    exact Nat.min_eq_left a5
  show RE tk 1 ps (psFx (ps3.1 + 1, ps3.2.1 - 1, ps3.2.2) (fxBk ps.2.2.2.2.1.length ps3.2.2.2))
  refine ⟨?_, a2, a3, ?_, ?_, hq⟩
  · show ps.1 + 1 ≤ ps3.1 + 1
    omega
  · show ps3.2.2.1 + (fxBk ps.2.2.2.2.1.length ps3.2.2.2).2.1.length + ps.1 ≤ ps.2.2.1 + ps.2.2.2.2.1.length + (ps3.1 + 1)
    rw [hlen]
    omega
  · show ps.2.2.2.2.1.length ≤ (fxBk ps.2.2.2.2.1.length ps3.2.2.2).2.1.length
    rw [hlen]
    exact Nat.le_refl _
theorem e_Atom (hT : Tn tk < LF) (hE : EE tk (m + 1) 1 E) (hD : EE tk (m + 1) 0 D) : EE tk m 1 (pAtom tk E D) := by
  intro ps hg hm
  refine te_gE (s := 0) hg ?_
  split
  · next h => exact RE.one hg (cst_lt h)
  · split
    · exact te_T hg (to_mono (t_Ident hg.1) (fun _ _ h => h.1) (fun _ h => h))
    · next h =>
      have hk : kAt tk ps.1 = 1 := by
        simp only [Bool.or_eq_true, Bool.not_eq_true', decide_eq_false_iff_not, not_or, Decidable.not_not] at h
        exact h.1
      have hlt : ps.1 < Tn tk := k_lt' hk (by decide)
      split
      · exact e_RecE hT hE hg hm hlt
      · split
        · exact e_Sel hg hlt
        · split
          · exact e_Brk hT hE hg hm hlt
          · split
            · exact e_Elms hT hE hg hm hlt
            · split
              · exact e_Let hT hE hD hg hm hlt
              · exact hg.flt 1
end TOE
