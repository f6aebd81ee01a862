/-! M: clauses -/
/-- one clause -/
def pCl1 (tk : TK) (ty aq ap E : PA TR) (nm : Option (Int32 × Nat)) : PA ((Int32 × Nat) × TR) := fun ps => pb (grQ tk (pHead tk aq ap)) (fun h => pb (pOpt tk 40 ty) fun t ps2 =>
  if sg tk ps2.1 45 = false then pflt 1 ps2
  else if (decide (h.1 = 6) || isProt h.1) = true then pflt 6 ps2
  else if nmB2 nm h.1 h.2.length = true then pflt 3 ps2
  else pb E (fun e => pret ((h.1, h.2.length), tRule (tMp h.2 (nI ps.1)) (tTo e t (ps2.1 + 1)) (nI ps.1))) (ps2.1 + 1, ps2.2)) ps
section MCL
variable {α β : Type} {em : α → V} {em2 : β → V} {tk : TK} {f f1 f' fo : FM} {j j1 j' j0 : AS} {B B1 a : Nat} {r : Option (Option V × AS)} {ps ps' : PS} {m n k k' : Nat} {LV : AL} {zs : List ZX} {ty aq ap E : PA TR} {c b o : Nat} {row : List V} {gg : Nat × List V} {nm : Option (Int32 × Nat)}
theorem cls_eq (M : Nat) : pCls tk ty aq ap E (M + 1) nm = pb (pCl1 tk ty aq ap E nm) fun r ps4 => if sg tk ps4.1 44 = true then pb (pCls tk ty aq ap E M (some r.1)) (fun q => pret (q.1, r.2 :: q.2)) (ps4.1 + 1, ps4.2) else some (.inl ((r.1, [r.2]), ps4)) := by
  funext ps
  unfold pCl1
  show pb (grQ tk (pHead tk aq ap)) _ ps = pb (fun ps => pb (grQ tk (pHead tk aq ap)) _ ps) _ ps
  rw [pb_at (p := fun ps : PS => pb (grQ tk (pHead tk aq ap)) (fun h => pb (pOpt tk 40 ty) fun t ps2 =>
    if sg tk ps2.1 45 = false then pflt 1 ps2
    else if (decide (h.1 = 6) || isProt h.1) = true then pflt 6 ps2
    else if nmB2 nm h.1 h.2.length = true then pflt 3 ps2
    else pb E (fun e => pret ((h.1, h.2.length), tRule (tMp h.2 (nI ps.1)) (tTo e t (ps2.1 + 1)) (nI ps.1))) (ps2.1 + 1, ps2.2)) ps) (p' := pb (grQ tk (pHead tk aq ap)) (fun h => pb (pOpt tk 40 ty) fun t ps2 =>
    if sg tk ps2.1 45 = false then pflt 1 ps2
    else if (decide (h.1 = 6) || isProt h.1) = true then pflt 6 ps2
    else if nmB2 nm h.1 h.2.length = true then pflt 3 ps2
    else pb E (fun e => pret ((h.1, h.2.length), tRule (tMp h.2 (nI ps.1)) (tTo e t (ps2.1 + 1)) (nI ps.1))) (ps2.1 + 1, ps2.2))) (ps' := ps) rfl, pb_pb]
  congr 1
  funext h
  rw [pb_pb]
  show pb (pOpt tk 40 ty) _ = _
  congr 1
  funext t ps2
  by_cases h1 : sg tk ps2.1 45 = false
  · rw [if_pos h1]
    symm
    rw [pb_at (p' := pflt 1) (ps' := ps2) (by rw [if_pos h1])]
    rfl
  · rw [if_neg h1]
    by_cases h2 : (decide (h.1 = 6) || isProt h.1) = true
    · rw [if_pos h2]
      symm
      rw [pb_at (p' := pflt 6) (ps' := ps2) (by rw [if_neg h1, if_pos h2])]
      rfl
    · rw [if_neg h2]
      by_cases h3 : nmB2 nm h.1 h.2.length = true
      · refine Eq.trans (if_pos h3) ?_
        symm
        rw [pb_at (p' := pflt 3) (ps' := ps2) (by rw [if_neg h1, if_neg h2, if_pos h3])]
        rfl
      · refine Eq.trans (if_neg h3) ?_
        symm
        rw [pb_at (p' := pb E (fun e => pret ((h.1, h.2.length), tRule (tMp h.2 (nI ps.1)) (tTo e t (ps2.1 + 1)) (nI ps.1)))) (ps' := (ps2.1 + 1, ps2.2)) (by rw [if_neg h1, if_neg h2, if_neg h3]), pb_pb]
        rfl
theorem ctm_stw {c s t : Nat} {vs : List V} {p : PA TR} {F : TR → PA β} {g : V → AS → Option (Option V × AS)} (hc : CoM true tv tk c s t vs p) (hg : PGr tk p) (hs : s ≤ 100) (hn : c ≤ n) (hP : PRM tk ps f j (n + 1)) (hj : jfm false j0 j)
    (h : ∀ v ps' j', PG tk ps ps' → PRM tk ps' f j' (n + 1) → jfm true j j' → j'.nn + 100 * (Tn tk - ps'.1) + s ≤ j.nn + 100 * (Tn tk - ps.1) → CTm false em2 tk fo j0 B (g (tv v) (stM ps' f j')) (F v ps')) : CTm false em2 tk fo j0 B (ab (aM n t vs (stM ps f j)) g) (pb p F ps) := by
  have hS := hP.2.2.2.2.2.2
  have hct := hc n ps f j (j.nn + 100 * (Tn tk - ps.1) - s) hn hP.dn (by omega)
  unfold pb
  cases hp : p ps with
  | none => exact trivial
  | some q =>
    rw [hp] at hct
    match q, hp, hct with
    | .inr e, _, hct =>
      obtain ⟨A', e1, q1⟩ := hct
      rw [e1]
      exact ⟨A', rfl, q1.wk.l hj⟩
    | .inl (v, ps'), hp, hct =>
      obtain ⟨j', e1, q1, q2⟩ := hct
      have hpg := hg ps v ps' hP.2.2.1 hp
      obtain ⟨h1, h2, h3, h4, h5⟩ := id hpg
      rw [e1, ab_ok]
      exact h v ps' j' hpg (hP.nx hpg q1 (by omega)) q1 (by omega)
theorem ctm_optT {s : Int32} {F : Option TR → PA β} {g : V → AS → Option (Option V × AS)} (htg : PGr tk ty) (hty : CoM true tv tk c 30 35 [] ty) (hn : max c 3 ≤ n) (hP : PRM tk ps f j (n + 1)) (hj : jfm false j0 j)
    (h : ∀ t ps' j', PGe tk ps ps' → PRM tk ps' f j' (n + 1) → jfm true j j' → j'.nn + 100 * (Tn tk - ps'.1) ≤ j.nn + 100 * (Tn tk - ps.1) → CTm false em2 tk fo j0 B (g (ov t) (stM ps' f j')) (F t ps')) :
    CTm false em2 tk fo j0 B (ab (aIf (bZ .ne (aCall (aM n) 9 [(aK s)])) (aCall (aM n) 35 []) (aK (-1)) LV (stM ps f j)) g) (pb (pOpt tk s ty) F ps) := by
  obtain ⟨ht, hT, hps, ha, hop, hfr, hS⟩ := id hP
  have e := m_eatB (n := n) (by omega) hP s LV
  cases hs : sg tk ps.1 s with
  | false =>
    rw [hs] at e
    rw [aIf_f e, aK_e, ab_ok, if_neg (by decide), pb_val (v := none) (ps' := ps) (by unfold pOpt; rw [hs, if_neg (by decide)])]
    exact h none ps j (PGe.rf hps ha) hP (jfm.rf j) (Nat.le_refl _)
  | true =>
    have hlt : ps.1 < Tn tk := sg_lt hs
    rw [hs] at e
    rw [aIf_t e, aCall_nil, if_pos rfl, pb_at (p' := pb ty (fun t => pret (some t))) (ps' := (ps.1 + 1, ps.2)) (by unfold pOpt; rw [hs, if_pos rfl]), pb_pb]
    refine ctm_stw hty htg (by omega) (by omega) (hP.one hlt) hj fun t ps1 j1 g1 hP1 hj1 hB1 => ?_
    dsimp only at hB1
    rw [pret_pb]
    exact h (some t) ps1 j1 (PGe.trans (PG.one hps hlt).e g1.e) hP1 hj1 (by omega)
theorem m_clause {F : (Int32 × Nat) × TR → PA β} {g : V → AS → Option (Option V × AS)} (htg : PGr tk ty) (hty : CoM true tv tk c 30 35 [] ty) (haq : CoM true tv tk c 60 25 [] aq) (hqa : PGt tk aq) (hff : ∀ ps e, aq ps = some (.inr e) → e.2.2 = ps.2.2.2) (hno : ∀ ps, begP tk ps = false → aq ps = pflt 1 ps)
    (htf : ∀ ps e, sg tk ps.1 33 = true → pTry tk aq ps = some (.inr e) → FN e (ap ps)) (hap : CoM true tv tk c 60 25 [] ap) (hq : PGt tk ap) (hEg : PGr tk E) (hE : CoM false tv tk c 30 12 [] E) (hn : max c 5 + 4 ≤ n) (hP : PRM tk ps ((o, row), gg) j (n + 1)) (hj : jfm false j0 j)
    (hnm : nmOK nm) (h20 : ∀ q, nm = some q → j.1 20 = q.1 ∧ j.1 21 = nI q.2)
    (hK : ∀ r ps' j', PG tk ps ps' → jfm false j0 j' → j'.1 20 = r.1.1 → j'.1 21 = nI r.1.2 → 0 ≤ r.1.1 ∧ r.1.1 ≤ 8191 → r.1.2 ≤ 600 → j'.nn + 100 * (Tn tk - ps'.1) + 90 + 40 * r.1.2 ≤ j.nn + 100 * (Tn tk - ps.1) → CTm false em2 tk fo j0 B (g (tv r.2) (stM ps' ((o, row), gg) j')) (F r ps')) :
    CTm false em2 tk fo j0 B (ab (aM n 72 [.int (b2i nm.isNone)] (stM ps ((o, row), gg) j)) g) (pb (pCl1 tk ty aq ap E nm) F ps) := by
  obtain ⟨n, rfl⟩ := suc1 (m := n) (by omega)
  have hP := hP.dn
  obtain ⟨ht, hT, hps, ha, hop, hfr, hS⟩ := id hP
  have hA : ALM = 30000 := rfl
  rw [pb_at (p := pCl1 tk ty aq ap E nm) (p' := pb (grQ tk (pHead tk aq ap)) (fun h => pb (pOpt tk 40 ty) fun t ps2 =>
    if sg tk ps2.1 45 = false then pflt 1 ps2
    else if (decide (h.1 = 6) || isProt h.1) = true then pflt 6 ps2
    else if nmB2 nm h.1 h.2.length = true then pflt 3 ps2
    else pb E (fun e => pret ((h.1, h.2.length), tRule (tMp h.2 (nI ps.1)) (tTo e t (ps2.1 + 1)) (nI ps.1))) (ps2.1 + 1, ps2.2))) (ps' := ps) rfl, pb_pb]
  rw [eM_clause, zM_clause, amth_run, if_pos (show [Term.int (b2i nm.isNone)].length = 1 from rfl), fin_ok, run_seq, run_set, aF_e, kS_ok, sM_f13, run_seq, run_set, aSz_e, kS_ok, sM_R17, sM_o17, run_seq, run_set, aCall_nil, kS_ab, ab_ab]
  refine m_head haq hqa hff hno htf hap hq (by omega) hP hj fun x ts a j1 q1 q2 q3 q4 q5 q6 => ?_
  have hl0 : fSm ((o, row ++ ts.map tv), gg) = fSm ((o, row), gg) + ts.length := by rw [fSm_push, List.length_map]
  have hPa : PRM tk (a, ps.2) ((o, row ++ ts.map tv), gg) j1 (n + 1) := hP.at (by omega) q2 q4 (by rw [hl0]; omega)
  have g0 : PG tk ps (a, ps.2) := ⟨q1, q2, rfl, by dsimp only; omega, hps⟩
  have hts : ts.length ≤ 600 := by omega
  have e8 : ∀ L : AL, L 3 = .int (nI (o + row.length)) → (aBin oSub (aSz 17) (aL 3)) L (stM (a, ps.2) ((o, row ++ ts.map tv), gg) j1) = some (some (.int (nI ts.length)), stM (a, ps.2) ((o, row ++ ts.map tv), gg) j1) := by
    intro L l3
    have : nI (o + (row ++ ts.map tv).length) - nI (o + row.length) = nI ts.length := by
      rw [nI_sub (by simp)]
      congr 1
      simp
      omega
    simp only [d10, eq_self, decide_true, decide_false, ti_b, b2i_t, b2i_f, aK, aL, aF, aSz, aBin, aDiv, aB, aAt, aNd, aArgs, aCall, aIf, bCmp, bZ, bAnd, bOr, bNot, bTT, bIf, ab_ok, ab_no, ab_none, ab_ab, ab_ite, aok_ok, aok_none, og_ok, og_none, vbin_i, vb8_i, vput_i, vI_i, cmp_i, hold_eq, hold_ne, hold_lt, hold_ge, hold_gt, hold_le, b2i_0, ss_b, ss_ite, oAdd, oSub, oMul, Option.bind_some, A0of, va_up, List.length_nil, List.length_cons, List.getD_cons_zero, List.getD_cons_succ, List.getD_nil, if_true, if_false, Bool.not_not, Bool.not_true, Bool.not_false, Bool.false_eq_true, reduceIte, Nat.reduceSub, Nat.reduceAdd, Nat.reduceEqDiff, sM_f13, sM_f14, sM_f11, sM_f19, sM_f20, sM_f21, sM_R17, sM_R18, sM_R4, sM_R5, sM_o17, sM_o18, sM_o4, sM_o5, sM_nn, sM_fl, l3, this]
  rw [run_seq, run_set, e8 _ rfl, kS_ok, run_seq, run_set, kS_ab, ab_ab, pb_pb]
  refine ctm_optT htg hty (by omega) hPa (hj.trans q4.wk) fun t ps2 j2 g2 hP2 hj2 hB2 => ?_
  dsimp only at hB2
  have hjj : jfm true j j2 := q4.trans hj2
  have hj02 : jfm false j0 j2 := hj.trans hjj.wk
  have hT2 := hP2.2.1
  have ha2 := hP2.2.2.2.1
  have hS2 := hP2.2.2.2.2.2.2
  rw [hl0] at hS2
  generalize hL : va_up (va_up (va_up (va_up (va_up (A0of true [.int (b2i nm.isNone)]) 2 (.int (nI ps.1))) 3 (.int (nI (o + row.length)))) 4 (.int x)) 5 (.int (nI ts.length))) 6 (ov t) = L
  have l1 : L 1 = .int (b2i nm.isNone) := by rw [← hL]; rfl
  have l2 : L 2 = .int (nI ps.1) := by rw [← hL]; rfl
  have l3 : L 3 = .int (nI (o + row.length)) := by rw [← hL]; rfl
  have l4 : L 4 = .int x := by rw [← hL]; rfl
  have l5 : L 5 = .int (nI ts.length) := by rw [← hL]; rfl
  have l6 : L 6 = ov t := by rw [← hL]; rfl
  clear hL
  have hfl : ∀ k : Int32, aCall (aM n) 11 [(aK k), (aF 13)] L (stM ps2 ((o, row ++ ts.map tv), gg) j2) = some (none, ftM (stM ps2 ((o, row ++ ts.map tv), gg) j2) k) := by
    intro k
    rw [aCall_2, aK_e, ab_ok, aF_e, ab_ok, sM_f13, m_fail (by omega)]
    rfl
  rw [run_seq, run_if, bNot_e (mS n (by omega) ht hT2 ha2 45)]
  cases g45 : sg tk ps2.1 45 with
  | false =>
    rw [Bool.not_false, kI_t, run_ex, aCall_nil, m_stop (by omega), kE_no, ab_no, pb_at (p' := pflt 1) (ps' := ps2) (by rw [if_pos g45])]
    exact ctm_flt hj02
  | true =>
    have hlt : ps2.1 < Tn tk := sg_lt g45
    have hn45 : ¬ sg tk ps2.1 45 = false := by rw [g45]; decide
    have ec : (bOr (bCmp .lt (aL 4) (aK 5)) (bCmp .eq (aL 4) (aK 6))) L (stM ps2 ((o, row ++ ts.map tv), gg) j2) = some (some (decide (x = 6) || isProt x), stM ps2 ((o, row ++ ts.map tv), gg) j2) := by
      rw [bOr_e (x := isProt x) (y := decide (x = 6)), Bool.or_comm]
      · unfold bCmp
        rw [aL_e, l4, ab_ok, aK_e, ab_ok, cmp_i, hold_lt, nm5 q5.1]
        rfl
      · exact bEq_e (by rw [aL_e, l4])
    rw [Bool.not_true, kI_f, run_skip, run_seq, run_if, ec]
    cases g6 : (decide (x = 6) || isProt x) with
    | true =>
      rw [kI_t, run_ex, hfl, kE_no, ab_no, pb_at (p' := pflt 6) (ps' := ps2) (by rw [if_neg hn45, if_pos rfl])]
      exact ctm_flt hj02
    | false =>
      have hn6 : ¬ (decide (x = 6) || isProt x) = true := by rw [g6]; decide
      have ed : (bAnd (bNot (bZ .ne (aL 1))) (bOr (bCmp .ne (aL 4) (aF 20)) (bCmp .ne (aL 5) (aF 21)))) L (stM ps2 ((o, row ++ ts.map tv), gg) j2) = some (some (nmB2 nm x ts.length), stM ps2 ((o, row ++ ts.map tv), gg) j2) := by
        cases hnmc : nm with
        | none =>
          rw [hnmc] at l1
          unfold bAnd
          rw [bNot_e (x := true) (bZn_e (x := true) (by rw [aL_e, l1]; rfl))]
          rfl
        | some q =>
          rw [hnmc] at l1
          obtain ⟨k1, k2⟩ := h20 q hnmc
          obtain ⟨w1, w2⟩ := hnm q hnmc
          have k1' : (stM ps2 ((o, row ++ ts.map tv), gg) j2).1 20 = q.1 := (hjj.2.1 20 (by decide) (fun _ => rfl)).trans k1
          have k2' : (stM ps2 ((o, row ++ ts.map tv), gg) j2).1 21 = nI q.2 := (hjj.2.1 21 (by decide) (fun _ => rfl)).trans k2
          have d2 : decide (nI ts.length = nI q.2) = decide (q.2 = ts.length) := by
            rw [decide_eq_decide]
            exact ⟨fun e => (nI_inj (by omega) (by omega) e).symm, fun e => congrArg nI e.symm⟩
          have d1 : decide (x = q.1) = decide (q.1 = x) := by
            rw [decide_eq_decide]
            exact ⟨Eq.symm, Eq.symm⟩
          rw [bAnd_e (x := true) (bNot_e (x := false) (bZn_e (x := false) (by rw [aL_e, l1]; rfl))) (bOr_e (x := !decide (q.1 = x)) (y := !decide (q.2 = ts.length)) ?_ ?_), Bool.true_and]
          · unfold nmB2
            dsimp only
            cases decide (q.1 = x) <;> cases decide (q.2 = ts.length) <;> rfl
          · unfold bCmp
            rw [aL_e, l4, ab_ok, aF_e, ab_ok, k1', cmp_i, hold_ne, d1]
            rfl
          · unfold bCmp
            rw [aL_e, l5, ab_ok, aF_e, ab_ok, k2', cmp_i, hold_ne, d2]
            rfl
      rw [kI_f, run_skip, run_seq, run_if, ed]
      cases g3 : nmB2 nm x ts.length with
      | true =>
        rw [kI_t, run_ex, hfl, kE_no, ab_no, pb_at (p' := pflt 3) (ps' := ps2) (by rw [if_neg hn45, if_neg (by decide), if_pos rfl])]
        exact ctm_flt hj02
      | false =>
        have hn3 : ¬ nmB2 nm x ts.length = true := by rw [g3]; decide
        rw [kI_f, run_skip, pb_at (p' := pb E (fun e => pret ((x, ts.length), tRule (tMp ts (nI ps.1)) (tTo e t (ps2.1 + 1)) (nI ps.1)))) (ps' := (ps2.1 + 1, ps2.2)) (by rw [if_neg hn45, if_neg (by decide), if_neg (by decide)]), pb_pb, run_seq, run_opF, aK_e, kOF_ok, sM_f13, show oAdd (nI ps2.1) 1 = nI (ps2.1 + 1) from nI_1 _, sM_p13, run_seq, run_set]
        obtain ⟨c1, w1, w2⟩ : ∃ c1, c1 ≤ 2 * ts.length + 1 ∧ (aIf (bCmp .eq (aL 5) (aK 1)) (aPop 17) (aCall (aM n) 47 [(aK 33), (aL 3), (aL 2)])) L (stM (ps2.1 + 1, ps2.2) ((o, row ++ ts.map tv), gg) j2) = some (some (tv (tMp ts (nI ps.1))), stM (ps2.1 + 1, ps2.2) ((o, row), gg) (mkN j2 c1)) := by
          by_cases hm1 : ts.length = 1
          · refine ⟨0, by omega, ?_⟩
            match ts, hm1 with
            | [t], _ =>
              have d1 : decide (nI [t].length = 1) = true := rfl
              simp only [d10, eq_self, decide_true, decide_false, ti_b, b2i_t, b2i_f, aK, aL, aF, aSz, aBin, aDiv, aB, aAt, aNd, aArgs, aCall, aIf, bCmp, bZ, bAnd, bOr, bNot, bTT, bIf, ab_ok, ab_no, ab_none, ab_ab, ab_ite, aok_ok, aok_none, og_ok, og_none, vbin_i, vb8_i, vput_i, vI_i, cmp_i, hold_eq, hold_ne, hold_lt, hold_ge, hold_gt, hold_le, b2i_0, ss_b, ss_ite, oAdd, oSub, oMul, Option.bind_some, A0of, va_up, List.length_nil, List.length_cons, List.getD_cons_zero, List.getD_cons_succ, List.getD_nil, if_true, if_false, Bool.not_not, Bool.not_true, Bool.not_false, Bool.false_eq_true, reduceIte, Nat.reduceSub, Nat.reduceAdd, Nat.reduceEqDiff, l5, d1]
              exact mp17 (L := L)
          · refine ⟨2 * ts.length + 1, Nat.le_refl _, ?_⟩
            have d1 : decide (nI ts.length = 1) = false := decide_eq_false fun h => hm1 (nI_inj (by omega) (by omega) h)
            have et := m_tuple (m := n) (ps := (ps2.1 + 1, ps2.2)) (j := j2) (o := o) (base := row) (items := ts) (fk := 34) (k := 33) (p := nI ps.1) (g := gg) (by omega) (by decide) (by decide) (by decide) (by omega) (by simp only [fSm] at hS; omega) (by omega)
            simp only [d10, eq_self, decide_true, decide_false, ti_b, b2i_t, b2i_f, aK, aL, aF, aSz, aBin, aDiv, aB, aAt, aNd, aArgs, aCall, aIf, bCmp, bZ, bAnd, bOr, bNot, bTT, bIf, ab_ok, ab_no, ab_none, ab_ab, ab_ite, aok_ok, aok_none, og_ok, og_none, vbin_i, vb8_i, vput_i, vI_i, cmp_i, hold_eq, hold_ne, hold_lt, hold_ge, hold_gt, hold_le, b2i_0, ss_b, ss_ite, oAdd, oSub, oMul, Option.bind_some, A0of, va_up, List.length_nil, List.length_cons, List.getD_cons_zero, List.getD_cons_succ, List.getD_nil, if_true, if_false, Bool.not_not, Bool.not_true, Bool.not_false, Bool.false_eq_true, reduceIte, Nat.reduceSub, Nat.reduceAdd, Nat.reduceEqDiff, l2, l3, l5, d1, et]
            have : tMp ts (nI ps.1) = tTup 34 33 ts (nI ps.1) := by
              unfold tMp
              split
              · next h => simp at hm1
              · rfl
            rw [this]
        rw [w2, kS_ok, run_seq, run_set, aF_e, kS_ok, sM_f13, run_seq, run_set, aCall_nil, kS_ab, ab_ab]
        have hg2 := g2.1
        dsimp only at hg2
        have hP3 : PRM tk (ps2.1 + 1, ps2.2) ((o, row), gg) (mkN j2 c1) (n + 1) := hP2.at (Nat.le_succ _) hlt ((jfm.rf (W := true) j2).mk _) (by rw [mkN_nn]; omega)
        refine ctm_st hE hEg (by omega) (by omega) hP3 (hj02.mk _) fun e ps4 j4 g4 hP4 hj4 hB4 => ?_
        dsimp only at hB4
        rw [mkN_nn] at hB4
        have hg4 := g4.1
        dsimp only at hg4
        have hle4 := g4.2.1
        rw [run_seq, run_putF, aL_e, show ∀ u v w : V, va_up (va_up (va_up L 7 u) 8 v) 9 w 4 = .int x from fun _ _ _ => l4, kPF_ok, sM_p20, run_seq, run_putF, aL_e, show ∀ u v w : V, va_up (va_up (va_up L 7 u) 8 v) 9 w 5 = .int (nI ts.length) from fun _ _ _ => l5, kPF_ok, sM_p21, run_ret]
        generalize hj5 : apF (apF j4 20 x) 21 (nI ts.length) = j5
        have hj5n : j5.nn = j4.nn := by rw [← hj5]; rfl
        have hj5j : jfm false j0 j5 := by rw [← hj5]; exact (hj4.p20 x).p21 _
        have f20 : j5.1 20 = x := by rw [← hj5]; rfl
        have f21 : j5.1 21 = nI ts.length := by rw [← hj5]; rfl
        have hS4 := hP4.2.2.2.2.2.2
        obtain ⟨c2, v1, v2⟩ : ∃ c2, c2 ≤ 1 ∧ ∀ L' : AL, L' 6 = ov t → L' 8 = .int (nI (ps2.1 + 1)) → L' 9 = tv e → (aIf (bZ .lt (aL 6)) (aL 9) (aCall (aM n) 16 [(aK 16), (aL 9), (aL 6), (aK (-1)), (aL 8)])) L' (stM ps4 ((o, row), gg) j5) = some (some (tv (tTo e t (ps2.1 + 1))), stM ps4 ((o, row), gg) (mkN j5 c2)) := by
          cases t with
          | none =>
            refine ⟨0, by omega, fun L' m6 m8 m9 => ?_⟩
            rw [aIf_t (bZlt_ov m6 _), aL_e, m9]
            rfl
          | some y =>
            refine ⟨1, Nat.le_refl _, fun L' m6 m8 m9 => ?_⟩
            have emk := m_make (m := n) (ps := ps4) (f := ((o, row), gg)) (j := j5) (k := 16) (p := nI (ps2.1 + 1)) (a := tv e) (b := tv y) (c := .int (-1)) (by omega) (by omega) (by decide) rfl rfl rfl
            rw [aIf_f (bZlt_ov m6 _)]
            have m6' : L' 6 = tv y := m6
            simp only [aCall, aArgs, aK_e, aL_e, ab_ok, m6', m8, m9]
            exact emk
        have er := m_rule (m := n) (ps := ps4) (f := ((o, row), gg)) (j := mkN j5 c2) (a := tMp ts (nI ps.1)) (b := tTo e t (ps2.1 + 1)) (p := nI ps.1) (by omega) (by rw [mkN_nn]; omega)
        have e58 : aCall (aM n) 58 [(aL 7), (aIf (bZ .lt (aL 6)) (aL 9) (aCall (aM n) 16 [(aK 16), (aL 9), (aL 6), (aK (-1)), (aL 8)])), (aL 2)] (va_up (va_up (va_up L 7 (tv (tMp ts (nI ps.1)))) 8 (.int (nI (ps2.1 + 1)))) 9 (tv e)) (stM ps4 ((o, row), gg) j5) = some (some (tv (tRule (tMp ts (nI ps.1)) (tTo e t (ps2.1 + 1)) (nI ps.1))), stM ps4 ((o, row), gg) (mkN (mkN j5 c2) 1)) := by
          rw [aCall_3, aL_e, ab_ok, v2 (va_up (va_up (va_up L 7 (tv (tMp ts (nI ps.1)))) 8 (.int (nI (ps2.1 + 1)))) 9 (tv e)) l6 rfl rfl, ab_ok, aL_e, ab_ok, show ∀ u v w : V, va_up (va_up (va_up L 7 u) 8 v) 9 w 2 = .int (nI ps.1) from fun _ _ _ => l2]
          exact er
        rw [e58, ab_ok, pret_pb]
        refine hK ((x, ts.length), tRule (tMp ts (nI ps.1)) (tTo e t (ps2.1 + 1)) (nI ps.1)) ps4 (mkN (mkN j5 c2) 1) (PG.trans (PGe.trans g0.e (PGe.trans g2 (PG.one hP2.2.2.1 hlt).e)) g4) ((hj5j.mk _).mk _) f20 f21 q5 hts ?_
        simp only [mkN_nn]
        omega
end MCL
