/-! what the parser says of patterns -/
section PPL
variable {α β : Type} {tk : TK} {ps ps' : PS}
theorem pb_inv {p : PA α} {F : α → PA β} {v : β} (h : pb p F ps = some (.inl (v, ps'))) : ∃ u ps1, p ps = some (.inl (u, ps1)) ∧ F u ps1 = some (.inl (v, ps')) := by
  unfold pb at h
  cases hp : p ps with
  | none => rw [hp] at h; cases h
  | some q =>
    rw [hp] at h
    match q, h with
    | .inr e, h => cases h
    | .inl (u, ps1), h => exact ⟨u, ps1, rfl, h⟩
theorem pNeed_inv {s : Int32} {p : PA α} {v : α} (h : pNeed tk s p ps = some (.inl (v, ps'))) : sg tk ps.1 s = true ∧ p (ps.1 + 1, ps.2) = some (.inl (v, ps')) := by
  unfold pNeed at h
  split at h
  · next hs => exact ⟨hs, h⟩
  · cases h
theorem pEnter_inv {p : PA α} {v : α} (h : pEnter p ps = some (.inl (v, ps'))) : p (ps.1, ps.2.1 + 1, ps.2.2) = some (.inl (v, ps')) := by
  unfold pEnter at h
  split at h
  · exact h
  · cases h
theorem pAdv_inv {p : PA α} {v : α} (h : pAdv tk p ps = some (.inl (v, ps'))) : ps.1 < Tn tk ∧ p (ps.1 + 1, ps.2) = some (.inl (v, ps')) := by
  unfold pAdv at h
  split at h
  · next hs => exact ⟨hs, h⟩
  · cases h
theorem pSeps_ge {s : Int32} {p : PA TR} (hg : PGt tk p) : ∀ (M : Nat) (ps ps' : PS) (l : List TR), pSeps tk s p M ps = some (.inl (l, ps')) → ps.1 ≤ ps'.1 := by
  intro M
  induction M with
  | zero => intro ps ps' l h; cases h
  | succ M ih =>
    intro ps ps' l h
    unfold pSeps at h
    split at h
    · obtain ⟨t, ps1, h1, h2⟩ := pb_inv h
      obtain ⟨ts, ps2, h3, h4⟩ := pb_inv h2
      cases h4
      have a1 := (hg _ _ _ h1).1
      have a2 := ih _ _ _ h3
      dsimp only at a1
      omega
    · cases h
      exact Nat.le_refl _
theorem pBE_ge {q : Bool} {pat : PA TR} (hg : PGt tk pat) {t : TR} (h : pBE tk q pat ps = some (.inl (t, ps'))) : ps.1 + 2 ≤ ps'.1 := by
  unfold pBE at h
  generalize (if q then (34 : Int32) else 36) = cl at h
  obtain ⟨_, h⟩ := pAdv_inv (pEnter_inv h)
  obtain ⟨l, ps2, h1, h2⟩ := pb_inv h
  obtain ⟨_, h3⟩ := pNeed_inv h2
  have h4 : ps'.1 = ps2.1 + 1 := by
    cases h3
    rfl
  have h5 : ps.1 + 1 ≤ ps2.1 := by
    dsimp only at h1
    split at h1
    · cases h1
      exact Nat.le_refl _
    · obtain ⟨u, ps3, k1, k2⟩ := pb_inv h1
      obtain ⟨ts, ps4, k3, k4⟩ := pb_inv k2
      cases k4
      have a1 := (hg _ _ _ k1).1
      have a2 := pSeps_ge hg _ _ _ _ k3
      dsimp only at a1
      omega
  omega
/-- names in patterns -/
def KP (tk : TK) (p : PA TR) : Prop := ∀ ps t ps', p ps = some (.inl (t, ps')) → (t.1 = 32 → ∃ i, t.2.1 = .int i) ∧ ¬ t.1 = 11
theorem KP.gT {p : PA TR} (h : KP tk p) : KP tk (grT tk p) := fun ps t ps' hp => h ps t ps' (grT_ok hp).1
theorem chain_kp (p : Int32) (l : List TR) : ((tChain true p l).1 = 32 → ∃ i, (tChain true p l).2.1 = .int i) ∧ ¬ (tChain true p l).1 = 11 := by
  cases l with
  | nil => exact ⟨fun _ => ⟨2, rfl⟩, by show ¬ (32 : Int32) = 11; decide⟩
  | cons t l => exact ⟨fun h => absurd h (by show ¬ (35 : Int32) = 32; decide), by show ¬ (35 : Int32) = 11; decide⟩
theorem pIdent_kp {q : Bool} {t : TR} (h : pIdent tk 32 q ps = some (.inl (t, ps'))) : (t.1 = 32 → ∃ i, t.2.1 = .int i) ∧ ¬ t.1 = 11 := by
  unfold pIdent at h
  split at h
  · split at h
    · split at h
      · cases h
      · cases h
        exact ⟨fun _ => ⟨_, rfl⟩, by show ¬ (32 : Int32) = 11; decide⟩
    · split at h
      · cases h
        exact ⟨fun _ => ⟨_, rfl⟩, by show ¬ (32 : Int32) = 11; decide⟩
      · cases h
  · split at h
    · cases h
      exact ⟨fun _ => ⟨_, rfl⟩, by show ¬ (32 : Int32) = 11; decide⟩
    · split at h
      · cases h
        exact ⟨fun _ => ⟨_, rfl⟩, by show ¬ (32 : Int32) = 11; decide⟩
      · cases h
theorem kp_apat {ty pat : PA TR} (hk : KP tk pat) : KP tk (pApat tk ty pat) := by
  refine KP.gT ?_
  intro ps t ps' h
  have kx : ∀ k : Int32, ¬ k = 32 → ¬ k = 11 → ∀ a b c p, ((k, a, b, c, p) : TR) = t → (t.1 = 32 → ∃ i, t.2.1 = .int i) ∧ ¬ t.1 = 11 := by
    intro k h1 h2 a b c p e
    subst e
    exact ⟨fun h => absurd h h1, h2⟩
  dsimp only at h
  split at h
  · cases h
    exact kx 31 (by decide) (by decide) _ _ _ _ rfl
  · split at h
    · exact pIdent_kp h
    · split at h
      · cases h
        exact kx 30 (by decide) (by decide) _ _ _ _ rfl
      · split at h
        · unfold pRecP at h
          obtain ⟨_, h⟩ := pAdv_inv (pEnter_inv h)
          obtain ⟨l, ps2, h1, h2⟩ := pb_inv h
          obtain ⟨_, h3⟩ := pNeed_inv h2
          cases h3
          exact kx 33 (by decide) (by decide) _ _ _ _ rfl
        · split at h
          · rw [brk_BE] at h
            unfold pBE at h
            generalize (if true = true then (34 : Int32) else 36) = cl at h
            obtain ⟨_, h⟩ := pAdv_inv (pEnter_inv h)
            obtain ⟨l, ps2, h1, h2⟩ := pb_inv h
            obtain ⟨_, h3⟩ := pNeed_inv h2
            cases h3
            dsimp only at h1
            split at h1
            · cases h1
              exact kx 33 (by decide) (by decide) _ _ _ _ rfl
            · obtain ⟨u, ps3, k1, k2⟩ := pb_inv h1
              obtain ⟨ts, ps4, k3, k4⟩ := pb_inv k2
              cases k4
              cases ts with
              | nil => exact hk _ _ _ k1
              | cons w ts => exact kx 33 (by decide) (by decide) _ _ _ _ rfl
          · split at h
            · rw [elms_BE] at h
              unfold pBE at h
              obtain ⟨_, h⟩ := pAdv_inv (pEnter_inv h)
              obtain ⟨l, ps2, h1, h2⟩ := pb_inv h
              obtain ⟨_, h3⟩ := pNeed_inv h2
              cases h3
              exact chain_kp _ _
            · cases h
theorem appl_inv {ty pat : PA TR} {t : TR} (h : pAppl tk ty pat ps = some (.inl (t, ps'))) : t.1 = 35 ∨ pApat tk ty pat ps = some (.inl (t, ps')) := by
  have h := (grT_ok h).1
  obtain ⟨p, ps1, h1, h2⟩ := pb_inv h
  split at h2
  · split at h2
    · obtain ⟨o, ps2, h3, h4⟩ := pb_inv h2
      cases h4
      exact Or.inl rfl
    · cases h2
  · cases h2
    exact Or.inr h1
theorem redA_35 : ∀ (ops : OPS) (o : Int32 × Nat × Int32) (l : ODS) (t : TR) (b : Nat), l.length = ops.length + 2 → redA true (o :: ops) l = [(t, b)] → t.1 = 35 := by
  intro ops
  induction ops with
  | nil =>
    intro o l t b hl h
    match l, hl with
    | [(two, x), (one, y)], _ =>
      simp only [redA, red1, if_true, List.cons.injEq, Prod.mk.injEq] at h
      rw [← h.1.1]
  | cons o2 ops ih =>
    intro o l t b hl h
    have h' : redA true (o2 :: ops) (red1 true o l) = [(t, b)] := h
    refine ih o2 (red1 true o l) t b ?_ h'
    match l, hl with
    | (two, x) :: (one, y) :: r, hl => simp [red1] at hl ⊢; omega
theorem ops_35 {opd : PA TR} : ∀ (M : Nat) (ops : OPS) (l : ODS) (ps ps' : PS) (t : TR), ops ≠ [] → l.length = ops.length + 1 → pOps tk true opd M ops l ps = some (.inl (t, ps')) → t.1 = 35 := by
  intro M
  induction M with
  | zero => intro ops l ps ps' t _ _ h; cases h
  | succ M ih =>
    intro ops l ps ps' t hne hl h
    unfold pOps at h
    split at h
    · cases hr : reds true (fxA ps.2.2.2.1 (opV tk ps)) ops l with
      | none => rw [hr] at h; cases h
      | some r =>
        rw [hr] at h
        obtain ⟨u, ps1, h1, h2⟩ := pb_inv h
        refine ih _ _ ps1 ps' t (by simp) ?_ h2
        have hrl : ∀ (ops : OPS) (l : ODS) (r : OPS × ODS), l.length = ops.length + 1 → reds true (fxA ps.2.2.2.1 (opV tk ps)) ops l = some r → r.2.length = r.1.length + 1 := by
          intro ops
          induction ops with
          | nil => intro l r hl hr; cases hr; exact hl
          | cons o ops ih2 =>
            intro l r hl hr
            unfold reds at hr
            split at hr
            · cases hr
            · split at hr
              · refine ih2 _ r ?_ hr
                match l, hl with
                | (two, x) :: (one, y) :: rr, hl => simp [red1] at hl ⊢; omega
                | [_], hl => simp at hl
              · cases hr
                exact hl
        simp [hrl ops l r hl hr]
    · unfold odsV at h
      split at h
      · next t' b heq =>
        cases h
        cases ops with
        | nil => exact absurd rfl hne
        | cons o ops => exact redA_35 ops o l t b (by simpa using hl) heq
      · cases h
theorem inf_inv {opd : PA TR} {t : TR} (h : pInf tk true opd ps = some (.inl (t, ps'))) : t.1 = 35 ∨ opd ps = some (.inl (t, ps')) := by
  unfold pInf at h
  obtain ⟨u, ps1, h1, h2⟩ := pb_inv h
  have h2' : (if opB tk true ps1 = true then Option.elim (reds true (fxA ps1.2.2.2.1 (opV tk ps1)) [] [(u, ps.1)]) (pflt 4 ps1) (fun r => pb opd (fun t => pOps tk true opd 3000 ((opV tk ps1, ps1.1, fxA ps1.2.2.2.1 (opV tk ps1)) :: r.1) ((t, ps1.1 + 1) :: r.2)) (ps1.1 + 1, ps1.2)) else odsV (redA true [] [(u, ps.1)]) ps1) = some (.inl (t, ps')) := h2
  split at h2'
  · have h3 : pb opd (fun t => pOps tk true opd 3000 ((opV tk ps1, ps1.1, fxA ps1.2.2.2.1 (opV tk ps1)) :: []) ((t, ps1.1 + 1) :: [(u, ps.1)])) (ps1.1 + 1, ps1.2) = some (.inl (t, ps')) := h2'
    obtain ⟨w, ps2, h4, h5⟩ := pb_inv h3
    exact Or.inl (ops_35 3000 _ _ ps2 ps' t (by simp) rfl h5)
  · have h3 : some (.inl (u, ps1)) = (some (.inl (t, ps')) : PR TR) := h2'
    cases h3
    exact Or.inr h1
theorem kp_inf {ty pat : PA TR} (hk : KP tk pat) : KP tk (pInf tk true (pAppl tk ty pat)) := by
  intro ps t ps' h
  have k35 : t.1 = 35 → (t.1 = 32 → ∃ i, t.2.1 = .int i) ∧ ¬ t.1 = 11 := fun e => ⟨fun h => by rw [e] at h; exact absurd h (by decide), by rw [e]; decide⟩
  rcases inf_inv h with h | h
  · exact k35 h
  · rcases appl_inv h with h | h
    · exact k35 h
    · exact kp_apat hk ps t ps' h
theorem kp_pat {ty pat : PA TR} (hk : KP tk pat) : KP tk (pPat tk ty pat) := by
  refine KP.gT ?_
  intro ps t ps' h
  have kx : ∀ k : Int32, ¬ k = 32 → ¬ k = 11 → t.1 = k → (t.1 = 32 → ∃ i, t.2.1 = .int i) ∧ ¬ t.1 = 11 := fun k h1 h2 e => ⟨fun h => absurd (e ▸ h) h1, by rw [e]; exact h2⟩
  obtain ⟨u, ps1, h1, h2⟩ := pb_inv h
  have h1' := (grT_ok h1).1
  split at h2
  · cases h2
  · obtain ⟨ts, ps2, h3, h4⟩ := pb_inv h2
    split at h4
    · split at h4
      · unfold pLayer at h4
        have h5 := pEnter_inv h4
        split at h5
        · cases h5
        · obtain ⟨_, h6⟩ := pAdv_inv h5
          obtain ⟨w, ps3, h7, h8⟩ := pb_inv h6
          cases h8
          exact kx 37 (by decide) (by decide) rfl
      · cases h4
    · cases h4
      unfold tTyd
      rcases List.eq_nil_or_concat ts with hz | ⟨i0, y, hz⟩
      · subst hz
        exact kp_inf hk ps u ps1 h1'
      · subst hz
        rw [List.concat_eq_append, List.foldl_append]
        exact ⟨fun h => absurd h (by show ¬ (36 : Int32) = 32; decide), by show ¬ (36 : Int32) = 11; decide⟩
theorem kp_pt : ∀ n, KP tk (pPt n tk) := by
  intro n
  induction n with
  | zero => intro ps t ps' h; cases h
  | succ n ih => exact kp_pat ih
def bareB (tk : TK) (ps : PS) : Bool := sg tk ps.1 22 || (nmB tk ps.1 && !oprB tk ps.2.2.2.1 ps.1)
/-- a name that stands alone -/
theorem patV_eq {ty pat : PA TR} (ht : tkOK tk) (hg : PGt tk pat) {t : TR} (h : pInf tk true (pAppl tk ty pat) ps = some (.inl (t, ps'))) : (bareB tk ps && decide (t.1 = 32) && (decide (ps'.1 = ps.1 + 1) || (decide (ps'.1 = ps.1 + 2) && decide (kAt tk ps.1 = 1)))) = patV tk ps.1 ps'.1 t := by
  unfold patV
  by_cases h32 : t.1 = 32
  · have hap : pApat tk ty pat ps = some (.inl (t, ps')) := by
      rcases inf_inv h with h | h
      · rw [h32] at h; exact absurd h (by decide)
      · rcases appl_inv h with h | h
        · rw [h32] at h; exact absurd h (by decide)
        · exact h
    have hap := (grT_ok hap).1
    rw [decide_eq_true h32, Bool.and_true, Bool.true_and]
    split at hap
    · cases hap
      exact absurd h32 (by show ¬ (31 : Int32) = 32; decide)
    · split at hap
      · unfold pIdent at hap
        split at hap
        · next h22 =>
          split at hap
          · cases hap
          · split at hap
            · next hn =>
              cases hap
              obtain ⟨_, v0, _⟩ := nm_val ht hn
              have hk : kAt tk ps.1 = 1 := by
                unfold sg at h22
                exact of_decide_eq_true ((Bool.and_eq_true _ _).mp h22).1
              have hpn : patN (32, .int (vAt tk (ps.1 + 1)), no, no, nI ps.1) = vAt tk (ps.1 + 1) := rfl
              rw [hpn, decide_eq_true v0, if_pos h22, Bool.true_and]
              unfold bareB
              rw [h22, hk]
              simp
            · cases hap
        · next h22 =>
          have h22' : sg tk ps.1 22 = false := by simpa using h22
          split at hap
          · next h5 =>
            cases hap
            have hpn : patN (32, no, .int (vAt tk ps.1), no, nI ps.1) = -1 := rfl
            have hnm : nmB tk ps.1 = false := by unfold nmB; rw [h5]; rfl
            unfold bareB
            rw [hpn, h22', hnm, decide_eq_false (show ¬ (0 : Int32) ≤ -1 by decide)]
            rfl
          · split at hap
            · next hn =>
              cases hap
              have hnm := ((Bool.and_eq_true _ _).mp hn).1
              obtain ⟨_, v0, _⟩ := nm_val ht hnm
              have hpn : patN (32, .int (vAt tk ps.1), no, no, nI ps.1) = vAt tk ps.1 := rfl
              unfold bareB
              rw [hpn, decide_eq_true v0, h22', hn]
              simp
            · cases hap
      · next hk =>
        have hk1 : kAt tk ps.1 = 1 ∧ sg tk ps.1 22 = false := by
          simp only [Bool.or_eq_true, Bool.not_eq_true', decide_eq_false_iff_not, not_or, Classical.not_not] at hk
          exact ⟨hk.1, by simpa using hk.2⟩
        have hnm : nmB tk ps.1 = false := by unfold nmB; rw [hk1.1]; rfl
        have hbare : bareB tk ps = false := by unfold bareB; rw [hk1.2, hnm]; rfl
        have h2 : ¬ ps'.1 = ps.1 + 1 := by
          split at hap
          · cases hap
            exact absurd h32 (by show ¬ (30 : Int32) = 32; decide)
          · split at hap
            · unfold pRecP at hap
              obtain ⟨_, h⟩ := pAdv_inv (pEnter_inv hap)
              obtain ⟨l, ps2, k1, k2⟩ := pb_inv h
              obtain ⟨_, k3⟩ := pNeed_inv k2
              cases k3
              exact absurd h32 (by show ¬ (33 : Int32) = 32; decide)
            · split at hap
              · rw [brk_BE] at hap
                have := pBE_ge hg hap
                omega
              · split at hap
                · rw [elms_BE] at hap
                  have := pBE_ge hg hap
                  omega
                · cases hap
        rw [hbare, hk1.2, if_neg (show ¬ false = true by decide), decide_eq_false h2]
        simp
  · rw [decide_eq_false h32]
    simp
end PPL
