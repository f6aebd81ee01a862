/-! the parser answers: heads, clauses, programs -/
section TOH
variable {α β : Type} {tk : TK} {ps ps1 ps' : PS} {Q : β → PS → Prop} {Qf : FT → Prop} {p : PA α} {F : α → PA β} {s s' n m b : Nat} {ty pat aq ap E D : PA TR}
/-- an atomic pattern -/
def TA (tk : TK) (ap : PA TR) : Prop := ∀ ps : PS, ps.1 ≤ Tn tk → ps.2.1 ≤ 32 → TO (QTy tk ps 1) (FTy tk ps) (ap ps)
theorem begP_lt (h : begP tk ps = true) : ps.1 < Tn tk := by
  refine k_lt fun e => ?_
  simp [begP, nmB, cstB, sg, e] at h
def QL (tk : TK) (ps : PS) (s : Nat) : List TR → PS → Prop := fun l ps' => ps.1 + l.length + s ≤ ps'.1 ∧ ps'.1 ≤ Tn tk ∧ ps'.2 = ps.2
theorem to_pbL {p : PA (List TR)} {F : List TR → PA β} (h : TO (QL tk ps s) (FTy tk ps) (p ps)) (hf : ∀ e, FTy tk ps e → Qf e) (hF : ∀ (v : List TR) a, ps.1 + v.length + s ≤ a → a ≤ Tn tk → TO Q Qf (F v (a, ps.2))) : TO Q Qf (pb p F ps) := by
  refine to_pb (Q' := QL tk ps s) (to_mono h (fun _ _ h => h) hf) fun v ps' h' => ?_
  obtain ⟨a, s'⟩ := ps'
  obtain ⟨h1, h2, h3⟩ := h'
  dsimp only at h1 h2 h3
  subst h3
  exact hF v a h1 h2
theorem t_Args (ha : TA tk ap) : ∀ (N : Nat) (ps : PS), ps.1 ≤ Tn tk → ps.2.1 ≤ 32 → Tn tk - ps.1 < N → TO (QL tk ps 0) (FTy tk ps) (pArgs tk ap N ps) := by
  intro N
  induction N with
  | zero => intro ps _ _ h; omega
  | succ N ih =>
    intro ps h1 h2 hN
    unfold pArgs
    split
    · next h =>
      have hl := begP_lt h
      refine to_pbT (ha ps h1 h2) (fun e h => h) fun t a g1 g2 => ?_
      refine to_pbL (ih (a, ps.2) g2 h2 (by dsimp only; omega)) (fun e h => h.up rfl (by dsimp only; omega)) fun l a' g3 g4 => ?_
      dsimp only at g3
      exact ⟨by rw [List.length_cons]; dsimp only; omega, g4, rfl⟩
    · exact ⟨Nat.le_refl _, h1, rfl⟩
theorem t_Try (ha : TA tk aq) (h1 : ps.1 < Tn tk) : TO (fun o ps' => QTy tk ps 0 o ps' ∧ (o.isSome = true → ps.1 + 1 ≤ ps'.1)) (FTy tk ps) (pTry tk aq ps) := by
  have hnone : QTy tk ps 0 (none : Option (Int32 × TR)) ps ∧ ((none : Option (Int32 × TR)).isSome = true → ps.1 + 1 ≤ ps.1) := ⟨⟨Nat.le_refl _, Nat.le_of_lt h1, rfl⟩, fun h => by cases h⟩
  unfold pTry
  refine to_enter (FTy.flt rfl (Nat.le_refl _) (Nat.le_of_lt h1)) fun ho => ?_
  refine to_adv h1 ?_
  dsimp only
  split
  · refine to_pbT (ha (ps.1 + 1, ps.2.1 + 1, ps.2.2) h1 ho) (fun e h => h.up rfl (Nat.le_succ _)) fun one a g1 g2 => ?_
    dsimp only at g1 ⊢
    split
    · next hop =>
      have hl2 : a < Tn tk := opr_lt hop
      split
      · refine to_pbT (ha (a + 1, ps.2.1 + 1, ps.2.2) hl2 ho) (fun e h => h.up rfl (by dsimp only; omega)) fun two a' g3 g4 => ?_
        dsimp only at g3 ⊢
        split
        · next h34 =>
          rw [Bool.and_eq_true] at h34
          have hl4 : a' < Tn tk := sg_lt h34.1
          exact ⟨⟨by dsimp only; omega, hl4, rfl⟩, fun _ => by dsimp only; omega⟩
        · exact hnone
      · exact hnone
    · exact hnone
  · exact hnone
theorem t_Trg (hq : TA tk aq) (ha : TA tk ap) (h1 : ps.1 < Tn tk) (h2 : ps.2.1 ≤ 32) : TO (fun o ps' => QTy tk ps 0 o ps' ∧ (o.isSome = true → ps.1 + 1 ≤ ps'.1)) (FTy tk ps) (pTrg tk aq ap ps) := by
  have h := t_Try hq h1
  have h' := ha ps (Nat.le_of_lt h1) h2
  unfold pTrg
  match hp : pTry tk aq ps, h with
  | none, h => exact h.elim
  | some (.inl (o, ps')), h => exact h
  | some (.inr e), h =>
    dsimp only
    match hap : ap ps, h' with
    | none, h' => exact h'.elim
    | some _, _ => exact h
def QH (tk : TK) (ps : PS) : Int32 × List TR → PS → Prop := fun v ps' => ps.1 + 1 ≤ ps'.1 ∧ ps.1 + v.2.length ≤ ps'.1 ∧ ps'.1 ≤ Tn tk ∧ ps'.2 = ps.2
theorem t_Head (hT : Tn tk < LF) (hq : TA tk aq) (ha : TA tk ap) (h1 : ps.1 ≤ Tn tk) (h2 : ps.2.1 ≤ 32) : TO (QH tk ps) (FTy tk ps) (pHead tk aq ap ps) := by
  have hargs : ∀ (x : Int32) (a : Nat), ps.1 ≤ a → a ≤ Tn tk → TO (QH tk ps) (FTy tk ps) (pb ap (fun t => pb (pArgs tk ap LF) fun l => pret (x, t :: l)) (a, ps.2)) := by
    intro x a g0 g1
    refine to_pbT (ha (a, ps.2) g1 h2) (fun e h => h.up rfl g0) fun t a1 k1 k2 => ?_
    dsimp only at k1 ⊢
    refine to_pbL (t_Args ha LF (a1, ps.2) k2 h2 (by dsimp only; omega)) (fun e h => h.up rfl (by dsimp only; omega)) fun l a2 k3 k4 => ?_
    dsimp only at k3
    exact ⟨by dsimp only; omega, by simp only [List.length_cons]; omega, k4, rfl⟩
  unfold pHead
  split
  · have hqq : ∃ a, (if sg tk ps.1 22 = true then (ps.1 + 1, ps.2) else ps) = (a, ps.2) ∧ ps.1 ≤ a ∧ a ≤ Tn tk := by
      split
      · next h => exact ⟨ps.1 + 1, rfl, Nat.le_succ _, sg_lt h⟩
      · exact ⟨ps.1, rfl, Nat.le_refl _, h1⟩
    obtain ⟨a, e, g0, g1⟩ := hqq
    rw [e]
    dsimp only
    split
    · next h =>
      rw [Bool.and_eq_true] at h
      exact hargs 6 (a + 1) (by omega) (sg_lt h.2)
    · split
      · next h => exact hargs _ (a + 1) (by omega) (nm_lt h)
      · exact FTy.flt (ps1 := (a, ps.2)) rfl g0 g1
  · refine to_pb (Q' := fun o ps' => QTy tk ps 0 o ps' ∧ (o.isSome = true → ps.1 + 1 ≤ ps'.1)) ?_ fun o ps' h => ?_
    · split
      · next h => exact t_Trg hq ha (sg_lt h) h2
      · exact ⟨⟨Nat.le_refl _, h1, rfl⟩, fun h => by cases h⟩
    · obtain ⟨⟨k1, k2, k3⟩, k4⟩ := h
      obtain ⟨a, t'⟩ := ps'
      dsimp only at k1 k2 k3 k4
      subst k3
      match o, k4 with
      | some (x, t), k4 =>
        have k4 := k4 rfl
        refine to_pbL (t_Args ha LF (a, ps.2) k2 h2 (by dsimp only; omega)) (fun e h => h.up rfl (by dsimp only; omega)) fun l a2 k5 k6 => ?_
        dsimp only at k5
        exact ⟨by dsimp only; omega, by simp only [List.length_cons]; omega, k6, rfl⟩
      | none, _ =>
        refine to_pbT (ha (a, ps.2) k2 h2) (fun e h => h.up rfl k1) fun one a1 k5 k6 => ?_
        dsimp only at k5 ⊢
        split
        · next hop =>
          have hl : a1 < Tn tk := opr_lt hop
          refine to_pbT (ha (a1 + 1, ps.2) hl h2) (fun e h => h.up rfl (by dsimp only; omega)) fun two a2 k7 k8 => ?_
          dsimp only at k7
          exact ⟨by dsimp only; omega, by simp only [List.length_cons, List.length_nil]; omega, k8, rfl⟩
        · exact FTy.flt (ps1 := (a1, ps.2)) rfl (by dsimp only; omega) k6
theorem te_gQH (hg : Go tk ps) {p : PA (Int32 × List TR)} (h : TO (QH tk ps) (FTy tk ps) (p ps)) : TO (fun v ps' => RE tk 1 ps ps' ∧ ps'.2 = ps.2 ∧ ps.1 + v.2.length ≤ ps'.1) (FE tk) (grQ tk p ps) := by
  obtain ⟨g1, g2, g3, g4⟩ := hg
  unfold grQ
  match hp : p ps, h with
  | none, h => exact h.elim
  | some (.inr e), h =>
    obtain ⟨k1, k2, k3⟩ := h
    dsimp only
    rw [if_pos k1]
    exact ⟨by rw [k1]; exact g3, by rw [k1]; omega, k3⟩
  | some (.inl (v, (a, t))), h =>
    obtain ⟨k1, k2, k3, k4⟩ := h
    dsimp only at k1 k2 k3 k4
    subst k4
    dsimp only
    rw [if_pos ⟨by omega, k3, rfl⟩]
    exact ⟨⟨k1, k3, rfl, by dsimp only; omega, Nat.le_refl _, g3⟩, rfl, k2⟩
def QC (tk : TK) (ps : PS) : (Int32 × Nat) × List TR → PS → Prop := fun r ps' => RE tk 1 ps ps' ∧ ps'.2.2.1 + ps'.2.2.2.2.1.length + r.1.2 + ps.1 ≤ ps.2.2.1 + ps.2.2.2.2.1.length + ps'.1
theorem e_Cl1 {nm : Option (Int32 × Nat)} (hT : Tn tk < LF) (hty : TTy tk 1 40 ty) (hq : TA tk aq) (ha : TA tk ap) (hE : EE tk m 1 E) (hg : Go tk ps) (hm : m ≤ ps.2.1) : TO (fun r ps' => RE tk 1 ps ps' ∧ ps'.2.2.1 + ps'.2.2.2.2.1.length + r.1.2 + ps.1 ≤ ps.2.2.1 + ps.2.2.2.2.1.length + ps'.1) (FE tk) (pCl1 tk ty aq ap E nm ps) := by
  unfold pCl1
  refine to_pb (te_gQH hg (t_Head hT hq ha hg.1 hg.2.1)) fun h ps1 r1 => ?_
  obtain ⟨r1, e1, l1⟩ := r1
  have g1 := hg.nx r1
  refine to_pbE (s := 0) g1 (te_T g1 (t_Opt (sn := 40) hty g1.1 g1.2.1 (by omega))) fun t ps2 r2 g2 => ?_
  split
  · exact g2.flt 1
  · next h45 =>
    rw [Bool.not_eq_false] at h45
    have hl2 : ps2.1 < Tn tk := sg_lt h45
    have g3 := g2.one hl2
    have r3 := (r1.tr r2).tr (RE.one g2 hl2)
    split
    · exact g2.flt 6
    · split
      · exact g2.flt 3
      · refine to_pbE g3 (hE _ g3 (by have := r3.2.2.1; omega)) fun e ps4 r4 g4 => ?_
        have r5 := r3.tr r4
        refine ⟨r5.wk (by omega), ?_⟩
        obtain ⟨_, _, _, c2, _⟩ := r2
        obtain ⟨_, _, _, c4, _⟩ := r4
        have e1' : ps1.2.2.1 + ps1.2.2.2.2.1.length = ps.2.2.1 + ps.2.2.2.2.1.length := by rw [e1]
        dsimp only at c4 ⊢
        omega
theorem e_Cls (hT : Tn tk < LF) (hty : TTy tk 1 40 ty) (hq : TA tk aq) (ha : TA tk ap) (hE : EE tk m 1 E) : ∀ (N : Nat) (nm : Option (Int32 × Nat)) (ps : PS), Go tk ps → m ≤ ps.2.1 → Tn tk - ps.1 < N → TO (QC tk ps) (FE tk) (pCls tk ty aq ap E N nm ps) := by
  intro N
  induction N with
  | zero => intro nm ps _ _ h; omega
  | succ N ih =>
    intro nm ps hg hm hN
    rw [cls_eq]
    refine to_pb (e_Cl1 hT hty hq ha hE hg hm) fun r ps4 h4 => ?_
    obtain ⟨r5, l5⟩ := h4
    have g4 := hg.nx r5
    split
    · next h44 =>
      have hl4 : ps4.1 < Tn tk := sg_lt h44
      have g5 := g4.one hl4
      have r6 := r5.tr (RE.one g4 hl4)
      refine to_pb (ih _ _ g5 (by have := r6.2.2.1; omega) (by have := r6.1; omega)) fun r ps6 h6 => ?_
      obtain ⟨r7, l7⟩ := h6
      refine ⟨(r6.tr r7).wk (by omega), ?_⟩
      have c4 := r6.2.2.2.1
      dsimp only at l7 c4 ⊢
      omega
    · exact ⟨r5, l5⟩
theorem e_Clau (hT : Tn tk < LF) (hty : TTy tk 1 40 ty) (hq : TA tk aq) (ha : TA tk ap) (hE : EE tk m 1 E) : EE tk m 1 (grE tk (pClau tk ty aq ap E)) := by
  intro ps hg hm
  refine te_gE (s := 0) hg ?_
  refine to_pb (e_Cls hT hty hq ha hE LF none ps hg hm (by omega)) fun r ps1 h => ?_
  obtain ⟨⟨a1, a2, a3, a4, a5, a6⟩, l⟩ := h
  exact ⟨a1, a2, a3, by dsimp only; omega, a5, a6⟩
theorem e_Fun (hT : Tn tk < LF) (hty : TTy tk 1 40 ty) (hq : TA tk aq) (ha : TA tk ap) (hE : EE tk m 1 E) : EE tk m 1 (pFun tk ty aq ap E b) := by
  intro ps hg hm
  unfold pFun
  refine to_pbE hg (e_Tvs hT hg) fun vs ps1 r1 g1 => ?_
  refine to_pbE g1 (e_More hT (e_Clau hT hty hq ha hE) LF ps1 g1 (by have := r1.2.2.1; omega) (by omega)) fun l ps2 r2 g2 => ?_
  exact (r1.tr r2).wk (by omega)
theorem e_some (h : TO (QE tk ps s) (FE tk) (p ps)) {G : α → β} : TO (QE tk ps s) (FE tk) (pb p (fun t => pret (G t)) ps) := to_pb h fun _ _ h => h
theorem e_Dec (ht : tkOK tk) (hT4 : Tn tk ≤ 400) (hty : TTy tk 1 40 ty) (hpt : TTy tk 1 40 pat) (hq : TA tk aq) (ha : TA tk ap) (hE : EE tk m 1 E) (hD : EE tk (m + 1) 0 D) (hg : Go tk ps) (hm : m ≤ ps.2.1) (hl : ps.1 < Tn tk) : TO (QE tk ps 1) (FE tk) (pDec tk ty pat aq ap E D ps) := by
  have hT : Tn tk < LF := Nat.lt_succ_of_le (tk_len ht)
  refine te_gE (s := 0) hg ?_
  dsimp only
  split
  · next he =>
    refine to_enter (hg.flt 5) fun ho => ?_
    refine to_adv hl ?_
    have g1 := hg.op hl ho
    rcases he with h | h
    · rw [if_neg (by rw [h]; decide), if_neg (by rw [h]; decide), if_neg (by rw [h]; decide), if_neg (by rw [h]; decide), if_pos h]
      refine to_pb (e_Abs hT hty hD g1 (by dsimp only; omega)) fun t ps' hh => ?_
      obtain ⟨q, r, rfl⟩ := hh
      exact r.out.wk (by omega)
    · rw [if_neg (by rw [h]; decide), if_neg (by rw [h]; decide), if_neg (by rw [h]; decide), if_neg (by rw [h]; decide), if_neg (by rw [h]; decide), if_neg (by rw [h]; decide), if_pos h]
      refine to_pb (e_Loc hT4 hD g1 (by dsimp only; omega)) fun t ps' hh => ?_
      obtain ⟨q, r, rfl⟩ := hh
      exact r.out.wk (by omega)
  · next he =>
    simp only [not_or] at he
    refine to_adv hl ?_
    have g1 := hg.one hl
    have r1 := RE.one hg hl
    have fin : ∀ {q : PR (Option TR)}, TO (QE tk (ps.1 + 1, ps.2) 0) (FE tk) q → TO (QE tk ps (0 + 1)) (FE tk) q := fun h => te_wk (te_tr r1 h) (by omega)
    have fin1 : ∀ {q : PR (Option TR)}, TO (QE tk (ps.1 + 1, ps.2) 1) (FE tk) q → TO (QE tk ps (0 + 1)) (FE tk) q := fun h => te_wk (te_tr r1 h) (by omega)
    split
    · exact fin1 (e_some (e_ValD hT hpt hE _ g1 hm))
    · split
      · exact fin1 (e_some (e_Fun hT hty hq ha hE _ g1 hm))
      · split
        · exact fin1 (e_some (e_Tbs hT hty _ g1 hm))
        · split
          · exact fin1 (e_some (e_Dat hT hty _ g1 hm))
          · rw [if_neg he.1]
            split
            · exact fin1 (e_some (e_Exs hT hty _ g1 hm))
            · rw [if_neg he.2]
              split
              · exact fin1 (e_some (te_gE (s := 0) g1 (e_Opn LF _ g1 (by dsimp only; omega))))
              · exact fin (e_some (e_Dir ht g1))
theorem begD_lt {i : Nat} (h : begD tk i = true) : i < Tn tk := k_lt' (begD_v h).1 (by decide)
theorem e_Dcs {dec : PA (Option TR)} (hd : ∀ ps, Go tk ps → m ≤ ps.2.1 → ps.1 < Tn tk → TO (QE tk ps 1) (FE tk) (dec ps)) : ∀ (N : Nat) (ps : PS), Go tk ps → m ≤ ps.2.1 → Tn tk - ps.1 < N → TO (QE tk ps 0) (FE tk) (pDcs tk dec N ps) := by
  intro N
  induction N with
  | zero => intro ps _ _ h; omega
  | succ N ih =>
    intro ps hg hm hN
    unfold pDcs
    split
    · next h =>
      have hl : ps.1 < Tn tk := sg_lt h
      exact te_wk (te_tr (RE.one hg hl) (ih _ (hg.one hl) hm (by dsimp only; omega))) (Nat.zero_le _)
    · split
      · next h =>
        have hl := begD_lt h
        refine to_pbE hg (hd ps hg hm hl) fun o ps1 r1 g1 => ?_
        refine to_pbE g1 (ih ps1 g1 (by have := r1.2.2.1; omega) (by have := r1.1; omega)) fun l ps2 r2 g2 => ?_
        exact (r1.tr r2).wk (by omega)
      · exact RE.rf hg
theorem t_ap (hT : Tn tk < LF) {n : Nat} (hn : 32 ≤ n) : TA tk (pApat tk (pTy 40 tk) (pPt n tk)) := fun ps h1 h2 => t_Apat (n := n) (t_Ty hT 40) (t_Pt hT n) hT h1 (by omega)
theorem e_ED (ht : tkOK tk) (hT4 : Tn tk ≤ 400) : ∀ n, (∀ m, 65 ≤ n + 2 * m → EE tk m 1 (pED n tk).1) ∧ (∀ m, 66 ≤ n + 2 * m → EE tk m 0 (pED n tk).2) := by
  have hT : Tn tk < LF := Nat.lt_succ_of_le (tk_len ht)
  intro n
  induction n with
  | zero =>
    refine ⟨fun m h ps hg hm => ?_, fun m h ps hg hm => ?_⟩
    · have := hg.2.1; omega
    · have := hg.2.1; omega
  | succ n ih =>
    obtain ⟨hE, hD⟩ := ih
    refine ⟨fun m h => ?_, fun m h => ?_⟩
    · exact e_E0 hT (t_Ty hT 40) (t_Pt hT 40) (hE (m + 1) (by omega)) (e_Inf hT (e_App hT (e_Atom hT (hE (m + 1) (by omega)) (hD (m + 1) (by omega)))))
    · intro ps hg hm
      refine te_gD hg ?_
      refine to_pbE hg (e_Dcs (m := m) (fun ps hg hm hl => e_Dec ht hT4 (t_Ty hT 40) (t_Pt hT 40) (t_ap hT (by omega)) (t_ap hT (by omega)) (hE m (by omega)) (hD (m + 1) (by omega)) hg hm hl) LF ps hg hm (by omega)) fun l ps1 r1 g1 => ?_
      exact r1
theorem e_Prg {dec : PA (Option TR)} (hd : ∀ ps, Go tk ps → ps.1 < Tn tk → TO (QE tk ps 1) (FE tk) (dec ps)) (hE : EE tk 0 1 E) : ∀ (N : Nat) (may : Bool) (ps : PS), Go tk ps → Tn tk - ps.1 < N → TO (fun (_ : List TR) ps' => RE tk 0 ps ps') (FE tk) (pPrg tk dec E N may ps) := by
  intro N
  induction N with
  | zero => intro may ps _ h; omega
  | succ N ih =>
    intro may ps hg hN
    unfold pPrg
    split
    · exact RE.rf hg
    · split
      · next h =>
        have hl : ps.1 < Tn tk := sg_lt h
        exact te_wk (te_tr (RE.one hg hl) (ih true _ (hg.one hl) (by dsimp only; omega))) (Nat.zero_le _)
      · split
        · next h =>
          have hl := begD_lt h
          refine to_pbE hg (hd ps hg hl) fun o ps1 r1 g1 => ?_
          refine to_pb (ih false ps1 g1 (by have := r1.1; omega)) fun l ps2 r2 => ?_
          exact (r1.tr r2).wk (by omega)
        · split
          · refine to_pbE hg (hE ps hg (Nat.zero_le _)) fun e ps1 r1 g1 => ?_
            split
            · refine to_pb (ih may ps1 g1 (by have := r1.1; have := r1.2.1; omega)) fun l ps2 r2 => ?_
              exact (r1.tr r2).wk (by omega)
            · exact g1.flt 1
          · exact hg.flt 1
/-- the parser answers -/
theorem prg_total (ht : tkOK tk) (hT4 : Tn tk ≤ 400) (hg : Go tk ps) : TO (fun (_ : List TR) ps' => RE tk 0 ps ps') (FE tk) (pPrg tk (pDec' 70 tk) (pED 70 tk).1 LF true ps) := by
  have hT : Tn tk < LF := Nat.lt_succ_of_le (tk_len ht)
  obtain ⟨hE, hD⟩ := e_ED ht hT4 70
  exact e_Prg (fun ps hg hl => e_Dec (m := 0) ht hT4 (t_Ty hT 40) (t_Pt hT 40) (t_ap hT (by omega)) (t_ap hT (by omega)) (hE 0 (by omega)) (hD 1 (by omega)) hg (Nat.zero_le _) hl) (hE 0 (by omega)) LF true ps hg (by omega)
end TOH
