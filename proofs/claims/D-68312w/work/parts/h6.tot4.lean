/-! the parser answers: declarations -/
section TOD
variable {α β : Type} {tk : TK} {ps ps1 ps' : PS} {Q : β → PS → Prop} {p : PA α} {F : α → PA β} {s s' n m b : Nat} {ty pat aq ap E D : PA TR}
theorem t_TVs : TTy tk 1 n (pTV tk) := fun _ h1 _ _ => t_TV h1
theorem e_Tvs {q : Bool} (hT : Tn tk < LF) (hg : Go tk ps) : TO (QE tk ps 0) (FE tk) (pTvs tk q ps) := by
  refine te_gD hg (te_T hg ?_)
  split
  · refine to_pbT (t_TV hg.1) (fun e h => h) fun t a g1 g2 => ?_
    exact ⟨by dsimp only; omega, g2, rfl⟩
  · split
    · exact ⟨Nat.le_refl _, hg.1, rfl⟩
    · next h =>
      have h33 : sg tk ps.1 33 = true := by
        simp only [Bool.or_eq_true, Bool.not_eq_true', not_or, Bool.not_eq_false] at h
        exact h.1
      have hl : ps.1 < Tn tk := sg_lt h33
      refine to_adv hl ?_
      refine to_pbT (t_TV (ps := (ps.1 + 1, ps.2)) hl) (fun e h => h.up rfl (Nat.le_succ _)) fun t a g1 g2 => ?_
      dsimp only at g1 ⊢
      refine to_pbT (t_Seps (n := 40) t_TVs LF (a, ps.2) g2 hg.2.1 (by dsimp only; omega) (by dsimp only; omega)) (fun e h => h.up rfl (by dsimp only; omega)) fun ts a' g3 g4 => ?_
      dsimp only at g3
      refine to_need (FTy.flt (ps1 := (a', ps.2)) rfl (by dsimp only; omega) g4) fun hl2 => ?_
      exact ⟨by dsimp only; omega, hl2, rfl⟩
theorem e_Recs (hg : Go tk ps) : ∀ (N : Nat) (r : Bool) (ps : PS), Go tk ps → Tn tk - ps.1 < N → TO (QE tk ps 0) (FE tk) (pRecs tk N r ps) := by
  intro N
  induction N with
  | zero => intro r ps _ h; omega
  | succ N ih =>
    intro r ps hg hN
    unfold pRecs
    split
    · next h =>
      have hl : ps.1 < Tn tk := sg_lt h
      exact te_wk (te_tr (RE.one hg hl) (ih true _ (hg.one hl) (by dsimp only; omega))) (Nat.zero_le _)
    · exact RE.rf hg
theorem e_Vals (hT : Tn tk < LF) (hpt : TTy tk 1 40 pat) (hE : EE tk m 1 E) : ∀ (N : Nat) (r : Bool) (ps : PS), Go tk ps → m ≤ ps.2.1 → Tn tk - ps.1 < N → TO (QE tk ps 1) (FE tk) (pVals tk pat E N r ps) := by
  intro N
  induction N with
  | zero => intro r ps _ _ h; omega
  | succ N ih =>
    intro r ps hg hm hN
    unfold pVals
    refine to_pbE hg (e_Recs hg LF r ps hg (by omega)) fun r' ps1 r1 g1 => ?_
    refine to_pbE g1 (te_T g1 (hpt ps1 g1.1 g1.2.1 (by omega))) fun p ps2 r2 g2 => ?_
    refine to_need (g2.flt 1) fun hl => ?_
    have r3 := (r1.tr r2).tr (RE.one g2 hl)
    have g3 := g2.one hl
    refine to_pbE g3 (hE _ g3 (by have := r3.2.2.1; omega)) fun e ps3 r4 g4 => ?_
    have r5 := r3.tr r4
    split
    · next h =>
      have hl3 : ps3.1 < Tn tk := sg_lt h
      have g5 := g4.one hl3
      have r6 := r5.tr (RE.one g4 hl3)
      refine to_pbE g5 (ih r' _ g5 (by have := r6.2.2.1; omega) (by have := r6.1; omega)) fun l ps5 r7 g6 => ?_
      exact (r6.tr r7).wk (by omega)
    · exact r5.wk (by omega)
theorem e_ValD (hT : Tn tk < LF) (hpt : TTy tk 1 40 pat) (hE : EE tk m 1 E) : EE tk m 1 (pValD tk pat E b) := by
  intro ps hg hm
  unfold pValD
  refine to_pbE hg (e_Tvs hT hg) fun vs ps1 r1 g1 => ?_
  refine to_pbE g1 (e_Vals hT hpt hE LF false ps1 g1 (by have := r1.2.2.1; omega) (by omega)) fun l ps2 r2 g2 => ?_
  exact (r1.tr r2).wk (by omega)
theorem e_ShT (hg : Go tk ps) : TO (QE tk ps 1) (FE tk) (pShT tk ps) := by
  unfold pShT
  split
  · next h =>
    rw [Bool.and_eq_true] at h
    exact RE.one hg (tyc_lt h.1)
  · exact hg.flt 1
theorem e_ty (hty : TTy tk 1 40 ty) : EE tk m 1 ty := fun ps hg _ => te_T hg (hty ps hg.1 hg.2.1 (by omega))
theorem e_Tb1 (hT : Tn tk < LF) (hty : TTy tk 1 40 ty) : EE tk m 1 (pTb1 tk ty) := by
  intro ps hg hm
  unfold pTb1
  refine to_pbE hg (e_Tvs hT hg) fun vs ps1 r1 g1 => ?_
  refine to_pbE g1 (e_ShT g1) fun nm ps2 r2 g2 => ?_
  refine to_need (g2.flt 1) fun hl => ?_
  refine to_pbE (g2.one hl) (e_ty hty _ (g2.one hl) (Nat.zero_le _)) fun t ps3 r3 g3 => ?_
  exact (((r1.tr r2).tr (RE.one g2 hl)).tr r3).wk (by omega)
theorem e_Tbs (hT : Tn tk < LF) (hty : TTy tk 1 40 ty) : EE tk m 1 (pTbs tk ty) := fun ps hg hm => te_gE (s := 0) hg (e_More hT (e_Tb1 hT hty) LF ps hg hm (by omega))
theorem e_New (hg : Go tk ps) : TO (QE tk ps 1) (FE tk) (pNew tk ps) := by
  unfold pNew
  have hq : RE tk 0 ps (if sg tk ps.1 22 = true then (ps.1 + 1, ps.2) else ps) := by
    split
    · next h => exact (RE.one hg (sg_lt h)).wk (by omega)
    · exact RE.rf hg
  generalize (if sg tk ps.1 22 = true then (ps.1 + 1, ps.2) else ps) = q at hq
  have gq := hg.nx hq
  dsimp only
  split
  · exact gq.flt 6
  · split
    · exact gq.flt 1
    · next h =>
      rw [Bool.not_eq_false] at h
      split
      · exact gq.flt 6
      · exact (hq.tr (RE.one gq (nm_lt h))).wk (by omega)
theorem e_Of (hty : TTy tk 1 40 ty) (hg : Go tk ps) : TO (QE tk ps 0) (FE tk) (pOf tk ty ps) := by
  refine te_gD hg ?_
  split
  · next h =>
    have hl : ps.1 < Tn tk := sg_lt h
    refine to_pbE (hg.one hl) (e_ty hty _ (hg.one hl) (Nat.zero_le _)) fun t ps3 r3 g3 => ?_
    exact ((RE.one hg hl).tr r3).wk (by omega)
  · exact RE.rf hg
theorem e_Con1 (hty : TTy tk 1 40 ty) : EE tk m 1 (pCon1 tk ty) := by
  intro ps hg hm
  unfold pCon1
  refine to_pbE hg (e_New hg) fun nm ps1 r1 g1 => ?_
  refine to_pbE g1 (e_Of hty g1) fun t ps2 r2 g2 => ?_
  exact (r1.tr r2).wk (by omega)
theorem e_Cons (hT : Tn tk < LF) (hty : TTy tk 1 40 ty) : EE tk m 1 (pCons tk ty) := fun ps hg hm => te_gE (s := 0) hg (e_More hT (e_Con1 hty) LF ps hg hm (by omega))
theorem e_Db1 (hT : Tn tk < LF) (hty : TTy tk 1 40 ty) : EE tk m 1 (pDb1 tk ty) := by
  intro ps hg hm
  unfold pDb1
  refine to_pbE hg (e_Tvs hT hg) fun vs ps1 r1 g1 => ?_
  refine to_pbE g1 (e_ShT g1) fun nm ps2 r2 g2 => ?_
  refine to_need (g2.flt 1) fun hl => ?_
  refine to_pbE (g2.one hl) (e_Cons hT hty _ (g2.one hl) (Nat.zero_le _)) fun t ps3 r3 g3 => ?_
  exact (((r1.tr r2).tr (RE.one g2 hl)).tr r3).wk (by omega)
theorem e_Dbs {vs : List TR} {nm : Int32} (hT : Tn tk < LF) (hty : TTy tk 1 40 ty) : EE tk m 1 (pDbs tk ty vs nm b) := by
  intro ps hg hm
  refine te_gE (s := 0) hg ?_
  refine to_pbE hg (e_Cons hT hty ps hg (Nat.zero_le _)) fun l ps1 r1 g1 => ?_
  refine to_pbE g1 (e_Seps (m := 0) (e_Db1 hT hty) LF ps1 g1 (Nat.zero_le _) (by omega)) fun ds ps2 r2 g2 => ?_
  exact (r1.tr r2).wk (by omega)
theorem e_Wth (hT : Tn tk < LF) (hty : TTy tk 1 40 ty) (hg : Go tk ps) : TO (QE tk ps 0) (FE tk) (pWth tk ty ps) := by
  refine te_gD hg ?_
  split
  · next h =>
    have hl : ps.1 < Tn tk := sg_lt h
    exact te_wk (te_tr (RE.one hg hl) (e_Tbs hT hty _ (hg.one hl) (Nat.zero_le _))) (Nat.zero_le _)
  · exact RE.rf hg
theorem e_Repl {nm : Int32} (hg : Go tk ps) : TO (QE tk ps 1) (FE tk) (pRepl tk nm b ps) := by
  unfold pRepl
  split
  · next h => exact RE.one hg (tyc_lt h)
  · exact hg.flt 1
theorem e_Dat (hT : Tn tk < LF) (hty : TTy tk 1 40 ty) : EE tk m 1 (pDat tk ty b) := by
  intro ps hg hm
  unfold pDat
  refine to_pbE hg (e_Tvs hT hg) fun vs ps1 r1 g1 => ?_
  refine to_pbE g1 (e_ShT g1) fun nm ps2 r2 g2 => ?_
  refine to_need (g2.flt 1) fun hl => ?_
  have g3 := g2.one hl
  have r3 := (r1.tr r2).tr (RE.one g2 hl)
  dsimp only
  split
  · next h =>
    have hl2 : ps2.1 + 1 < Tn tk := sg_lt h.2
    exact te_wk (te_tr (r3.tr (RE.one g3 hl2)) (e_Repl (g3.one hl2))) (by omega)
  · refine to_pbE g3 (e_Dbs hT hty _ g3 (Nat.zero_le _)) fun l ps4 r4 g4 => ?_
    refine to_pbE g4 (e_Wth hT hty g4) fun w ps5 r5 g5 => ?_
    exact ((r3.tr r4).tr r5).wk (by omega)
theorem e_Abs (hT : Tn tk < LF) (hty : TTy tk 1 40 ty) (hD : EE tk m 0 D) (hg : Go tk ps) (hm : m ≤ ps.2.1) : TO (fun _ ps' => ∃ q, RE tk 1 ps q ∧ ps' = (q.1, q.2.1 - 1, q.2.2)) (FE tk) (pAbs tk ty D b ps) := by
  unfold pAbs
  refine to_pbE hg (e_Tvs hT hg) fun vs ps1 r1 g1 => ?_
  refine to_pbE g1 (e_ShT g1) fun nm ps2 r2 g2 => ?_
  refine to_need (g2.flt 1) fun hl => ?_
  have g3 := g2.one hl
  have r3 := (r1.tr r2).tr (RE.one g2 hl)
  refine to_pbE g3 (e_Dbs hT hty _ g3 (Nat.zero_le _)) fun l ps4 r4 g4 => ?_
  refine to_pbE g4 (e_Wth hT hty g4) fun w ps5 r5 g5 => ?_
  have r6 := (r3.tr r4).tr r5
  refine to_need (g5.flt 1) fun hl5 => ?_
  have g6 := g5.one hl5
  refine to_pbE g6 (hD _ g6 (by have := r6.2.2.1; dsimp only; omega)) fun d ps7 r7 g7 => ?_
  refine to_need (g7.flt 1) fun hl7 => ?_
  exact ⟨(ps7.1 + 1, ps7.2), (((r6.tr (RE.one g5 hl5)).tr r7).tr (RE.one g7 hl7)).wk (by omega), rfl⟩
theorem e_IdE (hg : Go tk ps) : TO (fun v ps' => RE tk 1 ps ps' ∧ ∃ a b, v.2.1 = .int a ∧ v.2.2.1 = .int b) (FE tk) (grE tk (pIdent tk 11 false) ps) := by
  have h := te_gE (s := 0) (p := pIdent tk 11 false) hg (te_T hg (to_mono (t_Ident hg.1) (fun _ _ h => h.1) (fun _ h => h)))
  have h2 := t_Ident (tk := tk) (k := 11) (q := false) hg.1
  match hp : grE tk (pIdent tk 11 false) ps, h with
  | none, h => exact h.elim
  | some (.inr e), h => exact h
  | some (.inl (v, ps')), h =>
    rw [grE_inv hp] at h2
    exact ⟨h, h2.2⟩
theorem e_Ex1 (hty : TTy tk 1 40 ty) : EE tk m 1 (pEx1 tk ty) := by
  intro ps hg hm
  unfold pEx1
  refine to_pbE hg (e_New hg) fun nm ps1 r1 g1 => ?_
  split
  · next h =>
    have hl : ps1.1 < Tn tk := sg_lt h
    refine to_pb (e_IdE (g1.one hl)) fun t ps3 r3 => ?_
    obtain ⟨r3, x, y, e1, e2⟩ := r3
    rw [e1, e2]
    exact ((r1.tr (RE.one g1 hl)).tr r3).wk (by omega)
  · refine to_pbE g1 (e_Of hty g1) fun t ps2 r2 g2 => ?_
    exact (r1.tr r2).wk (by omega)
theorem e_Exs (hT : Tn tk < LF) (hty : TTy tk 1 40 ty) : EE tk m 1 (pExs tk ty) := fun ps hg hm => te_gE (s := 0) hg (e_More hT (e_Ex1 hty) LF ps hg hm (by omega))
theorem fold_ch : ∀ (cs : List (Int32 × Int32)) (q : FXS), psOK q → (∀ c ∈ cs, (0 ≤ c.1 ∧ c.1 ≤ 8191) ∧ (0 ≤ c.2 ∧ c.2 ≤ 20)) → psOK (cs.foldl (fun q c => fxCh c.1 c.2 q) q) ∧ (cs.foldl (fun q c => fxCh c.1 c.2 q) q).2.1.length = q.2.1.length + cs.length := by
  intro cs
  induction cs with
  | nil => intro q h _; exact ⟨h, rfl⟩
  | cons c cs ih =>
    intro q h hc
    have h1 := hc c (by simp)
    obtain ⟨k1, k2⟩ := ih (fxCh c.1 c.2 q) (fxCh_ok h h1.1 h1.2) (fun c' h' => hc c' (by simp [h']))
    refine ⟨k1, ?_⟩
    rw [List.foldl_cons, k2]
    simp [fxCh]
    omega
theorem fxFg_ok {mark middle : Nat} {q : FXS} (h : psOK q) : psOK (fxFg mark middle q) ∧ (fxFg mark middle q).2.1.length = min mark q.2.1.length + (q.2.1.length - middle) := by
  unfold fxFg
  obtain ⟨k1, k2⟩ := fold_ch ((q.2.1.drop middle).map fun n => (n, fxA q.1 n)) (fxBk mark q) (fxBk_ok h) (fun c hc => by
    obtain ⟨x, hx, rfl⟩ := List.mem_map.mp hc
    exact ⟨h.2.2.2.1 x (List.mem_of_mem_drop hx), fxA_ok h x⟩)
  refine ⟨k1, ?_⟩
  rw [k2, fxBk_ln]
  simp
theorem e_Loc (hT4 : Tn tk ≤ 400) (hD : EE tk m 0 D) (hg : Go tk ps) (hm : m ≤ ps.2.1) : TO (fun _ ps' => ∃ q, RE tk 1 ps q ∧ ps' = (q.1, q.2.1 - 1, q.2.2)) (FE tk) (pLoc tk D b ps) := by
  unfold pLoc
  refine to_pbE hg (hD ps hg hm) fun d ps1 r1 g1 => ?_
  refine to_need (g1.flt 1) fun hl => ?_
  have g2 := g1.one hl
  have r2 := r1.tr (RE.one g1 hl)
  dsimp only
  refine to_pbE g2 (hD _ g2 (by have := r2.2.2.1; dsimp only at this ⊢; omega)) fun e ps3 r3 g3 => ?_
  have r4 := r2.tr r3
  refine to_need (g3.flt 1) fun hl3 => ?_
  have r5 := r4.tr (RE.one g3 hl3)
  obtain ⟨a1, a2, a3, a4, a5, a6⟩ := r5
  obtain ⟨b1, b2, b3, b4, b5, b6⟩ := r2
  have c5 := r3.2.2.2.2.1
  obtain ⟨d1, d2, d3, d4⟩ := g3
  dsimp only at a1 a3 a4 a5 a6 b1 b4 b5 c5
  show TO _ _ (if ps3.2.2.2.2.1.length ≤ 400 then some (.inl ((82, tv d, tv e, no, nI b), psFx (ps3.1 + 1, ps3.2.1 - 1, ps3.2.2) (fxFg ps.2.2.2.2.1.length ps1.2.2.2.2.1.length ps3.2.2.2))) else none)
  rw [if_pos (by omega)]
  obtain ⟨k1, k2⟩ := fxFg_ok (mark := ps.2.2.2.2.1.length) (middle := ps1.2.2.2.2.1.length) d3
  have r15 := r1.2.2.2.2.1
  have hmin : min ps.2.2.2.2.1.length ps3.2.2.2.2.1.length = ps.2.2.2.2.1.length := Nat.min_eq_left (by omega)
  rw [hmin] at k2
  refine ⟨(ps3.1 + 1, ps3.2.1, ps3.2.2.1, fxFg ps.2.2.2.2.1.length ps1.2.2.2.2.1.length ps3.2.2.2), ⟨by dsimp only; omega, a2, a3, ?_, ?_, k1⟩, rfl⟩
  · show ps3.2.2.1 + (fxFg ps.2.2.2.2.1.length ps1.2.2.2.2.1.length ps3.2.2.2).2.1.length + ps.1 ≤ ps.2.2.1 + ps.2.2.2.2.1.length + (ps3.1 + 1)
    rw [k2]
    omega
  · show ps.2.2.2.2.1.length ≤ (fxFg ps.2.2.2.2.1.length ps1.2.2.2.2.1.length ps3.2.2.2).2.1.length
    rw [k2]
    omega
theorem e_Opn : ∀ (N : Nat) (ps : PS), Go tk ps → Tn tk - ps.1 < N → TO (QE tk ps 1) (FE tk) (pOpn tk N ps) := by
  intro N
  induction N with
  | zero => intro ps _ h; omega
  | succ N ih =>
    intro ps hg hN
    unfold pOpn
    split
    · next h =>
      have hl : ps.1 < Tn tk := by
        rcases h with h | h
        · exact k_lt' h (by decide)
        · exact k_lt' h (by decide)
      split
      · refine to_pbE (hg.one hl) (ih _ (hg.one hl) (by dsimp only; omega)) fun l ps1 r1 g1 => ?_
        exact ((RE.one hg hl).tr r1).wk (by omega)
      · exact RE.one hg hl
    · exact hg.flt 1
theorem e_Dirs {v : Int32} (ht : tkOK tk) (hv : 0 ≤ v ∧ v ≤ 20) : ∀ (N : Nat) (ps : PS), Go tk ps → Tn tk - ps.1 < N → TO (QE tk ps 0) (FE tk) (pDirs tk v N ps) := by
  intro N
  induction N with
  | zero => intro ps _ h; omega
  | succ N ih =>
    intro ps hg hN
    unfold pDirs
    split
    · next h =>
      obtain ⟨hl, h0, h1⟩ := nm_val ht h
      have hl : ps.1 < Tn tk := hl
      obtain ⟨g1, g2, g3, g4⟩ := id hg
      have hlen : (fxCh (vAt tk ps.1) v ps.2.2.2).2.1.length = ps.2.2.2.2.1.length + 1 := by simp [fxCh]
      have r : RE tk 1 ps (ps.1 + 1, ps.2.1, ps.2.2.1, fxCh (vAt tk ps.1) v ps.2.2.2) := by
        refine ⟨Nat.le_refl _, hl, rfl, ?_, ?_, fxCh_ok g3 ⟨h0, h1⟩ hv⟩
        · dsimp only
          rw [hlen]
          omega
        · dsimp only
          rw [hlen]
          omega
      exact te_wk (te_tr r (ih _ (hg.nx r) (by dsimp only; omega))) (Nat.zero_le _)
    · exact RE.rf hg
theorem dirv_ok {i : Nat} {s : Int32} : 0 ≤ (if s = 20 then (0 : Int32) else 1 + (if dgB tk i = true then 2 * nAt tk i else 0) + (if s = 17 then 1 else 0)) ∧ (if s = 20 then (0 : Int32) else 1 + (if dgB tk i = true then 2 * nAt tk i else 0) + (if s = 17 then 1 else 0)) ≤ 20 := by
  split
  · decide
  · by_cases hd : dgB tk i = true
    · rw [if_pos hd]
      unfold dgB at hd
      simp only [Bool.and_eq_true, decide_eq_true_eq] at hd
      obtain ⟨⟨_, h0⟩, h1⟩ := hd
      have h8 : nAt tk i ≤ 8191 := Int32.le_trans (Int32.le_of_lt h1) (by decide)
      obtain ⟨c1, c2⟩ := clamp_lt h0 h8
      generalize (nAt tk i).toNatClampNeg = k at c1 c2
      rw [c2] at h1 ⊢
      have hk : k < 10 := by
        rcases Nat.lt_or_ge k 10 with h | h
        · exact h
        · exact absurd h1 (nI_nlt (a := k) (b := 10) h (by omega))
      have : ∀ k : Fin 10, (0 ≤ 1 + 2 * nI k.val + (if s = 17 then (1 : Int32) else 0)) ∧ 1 + 2 * nI k.val + (if s = 17 then (1 : Int32) else 0) ≤ 20 := by
        by_cases h17 : s = 17
        · rw [if_pos h17]; decide
        · rw [if_neg h17]; decide
      exact this ⟨k, hk⟩
    · rw [if_neg hd]
      by_cases h17 : s = 17
      · rw [if_pos h17]; decide
      · rw [if_neg h17]; decide
theorem e_Dir {s : Int32} (ht : tkOK tk) (hg : Go tk ps) : TO (QE tk ps 0) (FE tk) (pDir tk s ps) := by
  have hT : Tn tk < LF := Nat.lt_succ_of_le (tk_len ht)
  unfold pDir
  have hq : RE tk 0 ps (if (!decide (s = 20) && dgB tk ps.1) = true then (ps.1 + 1, ps.2) else ps) := by
    split
    · next h =>
      rw [Bool.and_eq_true] at h
      have h2 := h.2
      unfold dgB at h2
      rw [Bool.and_eq_true, Bool.and_eq_true, decide_eq_true_eq] at h2
      exact (RE.one hg (k_lt' h2.1.1 (by decide))).wk (by omega)
    · exact RE.rf hg
  generalize (if (!decide (s = 20) && dgB tk ps.1) = true then (ps.1 + 1, ps.2) else ps) = q at hq
  have gq := hg.nx hq
  dsimp only
  split
  · exact te_wk (te_tr hq (e_Dirs ht dirv_ok LF q gq (by omega))) (Nat.zero_le _)
  · exact gq.flt 1
end TOD
