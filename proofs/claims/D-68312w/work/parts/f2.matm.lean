/-! M: atoms -/
section MAT
variable {α β : Type} {em : α → V} {em2 : β → V} {tk : TK} {f f1 f' fo : FM} {j j1 j' j0 : AS} {B B1 a : Nat} {r : Option (Option V × AS)} {ps ps' : PS} {m n k k' : Nat} {LV : AL} {zs : List ZX}
theorem m_selector (hn : 5 ≤ n) (hP : PRM tk ps f j (n + 1)) (hB : j.nn + 100 * (Tn tk - ps.1) ≤ B + 60) (hlt : ps.1 < Tn tk) (l1 : LV 1 = .int (nI ps.1)) :
    CTm false tv tk f j B (run ((zSeq (zSet 2 (aCall (aM n) 61 [])) (zSeq (zSet 3 (aCall (aM n) 32 [])) (zSeq (zSet 4 (aCall (aM n) 16 [(aK 34), (aL 3), (aCall (aM n) 34 [(aL 2), (aL 1)]), (aK (-1)), (aL 1)])) (zSeq (zSet 5 (aCall (aM n) 16 [(aK 33), (aCall (aM n) 46 [(aL 4)]), (aK 1), (aK (-1)), (aL 1)])) (zRet (aCall (aM n) 16 [(aK 19), (aCall (aM n) 46 [(aCall (aM n) 58 [(aL 5), (aCall (aM n) 49 [(aL 2), (aL 1)]), (aL 1)])]), (aK (-1)), (aK (-1)), (aL 1)])))))) :: zs) nk LV (stM (ps.1 + 1, ps.2) f j)) (pSel tk ps) := by
  obtain ⟨ht, hT, hps, ha, hop0, hfr, hS⟩ := id hP
  have hA : ALM = 30000 := rfl
  have hP1 := hP.one hlt
  have ha1 : (ps.1 + 1, ps.2.1, ps.2.2.1 + 1, ps.2.2.2).1 ≤ Tn tk := hlt
  unfold pSel pAdv
  rw [if_pos hlt, run_seq, run_set, aCall_nil, m_freshName (by omega) (by dsimp only; omega), kS_ok, run_seq, run_set, aCall_nil, m_label (by omega) ht hT ha1]
  dsimp only
  cases hl : labB tk (ps.1 + 1) with
  | false =>
    rw [if_neg (show ¬ false = true by decide), if_neg (show ¬ false = true by decide), kS_no]
    exact ctm_flt (ps := (ps.1 + 1, ps.2.1, ps.2.2.1 + 1, ps.2.2.2)) (jfm.rf j)
  | true =>
    have hlt1 := lab_lt hl
    have hlt1' : ps.1 + 1 < Tn tk := hlt1
    rw [if_pos rfl, if_pos rfl, kS_ok]
    generalize hQ : (ps.1 + 1 + 1, ps.2.1, ps.2.2.1 + 1, ps.2.2.2) = Q
    have hq1 : Q.2.2.1 = ps.2.2.1 + 1 := by rw [← hQ]
    have hv : ps.2.2.1 < Q.2.2.1 := by omega
    have hfq : Q.2.2.1 < 2 ^ 30 := by omega
    have s4 : ∀ L : AL, L 1 = .int (nI ps.1) → L 2 = .int (frM ps.2.2.1) → L 3 = .int (labV tk (ps.1 + 1)) → aCall (aM n) 16 [(aK 34), (aL 3), (aCall (aM n) 34 [(aL 2), (aL 1)]), (aK (-1)), (aL 1)] L (stM Q f j) = some (some (tv (34, .int (labV tk (ps.1 + 1)), tv (tVar (nI (8192 + ps.2.2.1)) (nI ps.1)), no, nI ps.1)), stM Q f (mkN j 2)) := by
      intro L k1 k2 k3
      have q1 := m_variableR (m := n) (ps := Q) (f := f) (j := j) (v := ps.2.2.1) (p := nI ps.1) (by omega) (by omega) hv hfq
      have q2 := m_makeF (m := n) (ps := Q) (f := f) (j := mkN j 1) (fk := 34) (i := labV tk (ps.1 + 1)) (p := nI ps.1) (t := tVar (nI (8192 + ps.2.2.1)) (nI ps.1)) (by omega) (by decide) (by rw [mkN_nn]; omega)
      simp only [d10, eq_self, decide_true, decide_false, ti_b, b2i_t, b2i_f, aK, aL, aF, aSz, aBin, aDiv, aB, aAt, aNd, aArgs, aCall, aIf, bCmp, bZ, bAnd, bOr, bNot, bTT, bIf, ab_ok, ab_no, ab_none, ab_ab, ab_ite, aok_ok, aok_none, og_ok, og_none, vbin_i, vb8_i, vput_i, vI_i, cmp_i, hold_eq, hold_ne, hold_lt, hold_ge, hold_gt, hold_le, b2i_0, ss_b, ss_ite, oAdd, oSub, oMul, Option.bind_some, A0of, va_up, List.length_nil, List.length_cons, List.getD_cons_zero, List.getD_cons_succ, List.getD_nil, if_true, if_false, Bool.not_not, Bool.not_true, Bool.not_false, Bool.false_eq_true, reduceIte, Nat.reduceSub, Nat.reduceAdd, Nat.reduceEqDiff, k1, k2, k3, q1, q2]
      rfl
    have s5 : ∀ (L : AL) (t4 : TR), L 1 = .int (nI ps.1) → L 4 = tv t4 → aCall (aM n) 16 [(aK 33), (aCall (aM n) 46 [(aL 4)]), (aK 1), (aK (-1)), (aL 1)] L (stM Q f (mkN j 2)) = some (some (tv (33, tLi [t4], .int 1, no, nI ps.1)), stM Q f (mkN j 4)) := by
      intro L t4 k1 k4
      have q1 := m_single (m := n) (ps := Q) (f := f) (j := mkN j 2) (t := t4) (by omega) (by rw [mkN_nn]; omega)
      have q2 := m_make (m := n) (ps := Q) (f := f) (j := mkN (mkN j 2) 1) (k := 33) (p := nI ps.1) (a := tLi [t4]) (b := .int 1) (c := .int (-1)) (by omega) (by simp only [mkN_nn]; omega) (by decide) (okLi [t4]) rfl rfl
      simp only [d10, eq_self, decide_true, decide_false, ti_b, b2i_t, b2i_f, aK, aL, aF, aSz, aBin, aDiv, aB, aAt, aNd, aArgs, aCall, aIf, bCmp, bZ, bAnd, bOr, bNot, bTT, bIf, ab_ok, ab_no, ab_none, ab_ab, ab_ite, aok_ok, aok_none, og_ok, og_none, vbin_i, vb8_i, vput_i, vI_i, cmp_i, hold_eq, hold_ne, hold_lt, hold_ge, hold_gt, hold_le, b2i_0, ss_b, ss_ite, oAdd, oSub, oMul, Option.bind_some, A0of, va_up, List.length_nil, List.length_cons, List.getD_cons_zero, List.getD_cons_succ, List.getD_nil, if_true, if_false, Bool.not_not, Bool.not_true, Bool.not_false, Bool.false_eq_true, reduceIte, Nat.reduceSub, Nat.reduceAdd, Nat.reduceEqDiff, k1, k4, q1, q2]
      rfl
    have s6 : ∀ (L : AL) (t5 : TR), L 1 = .int (nI ps.1) → L 2 = .int (frM ps.2.2.1) → L 5 = tv t5 → aCall (aM n) 16 [(aK 19), (aCall (aM n) 46 [(aCall (aM n) 58 [(aL 5), (aCall (aM n) 49 [(aL 2), (aL 1)]), (aL 1)])]), (aK (-1)), (aK (-1)), (aL 1)] L (stM Q f (mkN j 4)) = some (some (tv (tLam t5 (tName (nI (8192 + ps.2.2.1)) (nI ps.1)) (nI ps.1))), stM Q f (mkN j 8)) := by
      intro L t5 k1 k2 k5
      have q1 := m_nameR (m := n) (ps := Q) (f := f) (j := mkN j 4) (v := ps.2.2.1) (p := nI ps.1) (by omega) (by rw [mkN_nn]; omega) hv hfq
      have q2 := m_rule (m := n) (ps := Q) (f := f) (j := mkN (mkN j 4) 1) (a := t5) (b := tName (nI (8192 + ps.2.2.1)) (nI ps.1)) (p := nI ps.1) (by omega) (by simp only [mkN_nn]; omega)
      have q3 := m_single (m := n) (ps := Q) (f := f) (j := mkN (mkN (mkN j 4) 1) 1) (t := tRule t5 (tName (nI (8192 + ps.2.2.1)) (nI ps.1)) (nI ps.1)) (by omega) (by simp only [mkN_nn]; omega)
      have q4 := m_make (m := n) (ps := Q) (f := f) (j := mkN (mkN (mkN (mkN j 4) 1) 1) 1) (k := 19) (p := nI ps.1) (a := tLi [tRule t5 (tName (nI (8192 + ps.2.2.1)) (nI ps.1)) (nI ps.1)]) (b := .int (-1)) (c := .int (-1)) (by omega) (by simp only [mkN_nn]; omega) (by decide) (okLi _) rfl rfl
      simp only [d10, eq_self, decide_true, decide_false, ti_b, b2i_t, b2i_f, aK, aL, aF, aSz, aBin, aDiv, aB, aAt, aNd, aArgs, aCall, aIf, bCmp, bZ, bAnd, bOr, bNot, bTT, bIf, ab_ok, ab_no, ab_none, ab_ab, ab_ite, aok_ok, aok_none, og_ok, og_none, vbin_i, vb8_i, vput_i, vI_i, cmp_i, hold_eq, hold_ne, hold_lt, hold_ge, hold_gt, hold_le, b2i_0, ss_b, ss_ite, oAdd, oSub, oMul, Option.bind_some, A0of, va_up, List.length_nil, List.length_cons, List.getD_cons_zero, List.getD_cons_succ, List.getD_nil, if_true, if_false, Bool.not_not, Bool.not_true, Bool.not_false, Bool.false_eq_true, reduceIte, Nat.reduceSub, Nat.reduceAdd, Nat.reduceEqDiff, k1, k2, k5, q1, q2, q3, q4]
      rfl
    rw [run_seq, run_set, s4 _ (by simpa [va_up] using l1) rfl rfl, kS_ok, run_seq, run_set, s5 _ _ (by simpa [va_up] using l1) rfl, kS_ok, run_ret, s6 _ _ (by simpa [va_up] using l1) rfl rfl]
    have hq0 : Q.1 = ps.1 + 1 + 1 := by rw [← hQ]
    exact ctm_ret (v := tSel (labV tk (ps.1 + 1)) (nI (8192 + ps.2.2.1)) (nI ps.1)) ((jfm.rf j).mk _) (by rw [mkN_nn, hq0]; omega)
theorem m_letM {E D : PA TR} {c : Nat} (hEg : PGr tk E) (hE : CoM false tv tk c 30 12 [] E) (hDg : PGh tk D) (hD : CoMD tv tk c 5 [.int 0] D) (hn : max c 5 ≤ n) (hP : PRM tk ps f j (n + 1)) (hB : j.nn + 100 * (Tn tk - ps.1) ≤ B + 60) (l1 : LV 1 = .int (nI ps.1)) :
    CTm false tv tk f j B (run [(zSeq (zEx (aCall (aM n) 15 [])) (zSeq (zOpF oAdd 13 (aK 1)) (zSeq (zSet 2 (aSz 5)) (zSeq (zSet 3 (aCall (aM n) 5 [(aK 0)])) (zSeq (zEx (aCall (aM n) 33 [(aK 15)])) (zSeq (zSet 4 (aSz 17)) (zSeq (zDo LN (zAdd 17 (aCall (aM n) 12 [])) (bZ .ne (aCall (aM n) 9 [(aK 41)]))) (zSeq (zEx (aCall (aM n) 33 [(aK 9)])) (zSeq (zOpF oSub 14 (aK 1)) (zSeq (zEx (aCall (aM n) 62 [(aL 2)])) (zRet (aCall (aM n) 16 [(aK 14), (aL 3), (aCall (aM n) 56 [(aL 4), (aL 1)]), (aK (-1)), (aL 1)]))))))))))))] nk LV (stM ps f j)) (pLet tk E D ps) := by
  obtain ⟨⟨o, base⟩, g⟩ := f
  obtain ⟨ht, hT, hps, ha, hop0, hfr, hS⟩ := id hP
  have hA : ALM = 30000 := rfl
  have hil0 : fSm ((o, base), g) = o + base.length + g.1 + g.2.length := rfl
  unfold pLet
  rw [run_seq, run_ex, aCall_nil, kE_ab]
  refine ctm_enter (by omega) hP (jfm.rf j) fun hop => ?_
  refine ctm_adv fun hlt => ?_
  have hlt : ps.1 < Tn tk := hlt
  have hP1 := hP.op hop hlt
  rw [run_seq, run_opF, aK_e, kOF_ok, sM_f13, show oAdd (nI ps.1) 1 = nI (ps.1 + 1) from nI_1 _, sM_p13, run_seq, run_set, aSz_e, kS_ok, sM_R5, sM_o5, ints_len, chm_len _ _ hps.2.2.1, Nat.zero_add, run_seq, run_set, aCall_1, aK_e, ab_ok, kS_ab]
  refine ctm_std hD hDg (by omega) hP1 (by dsimp only; omega) (jfm.rf j) fun d ps1 j1 g1 hP1' hj1 hB1 => ?_
  dsimp only at hB1
  rw [run_seq, run_ex, aCall_1, aK_e, ab_ok, kE_ab]
  refine ctm_need (by omega) hP1' hj1 fun hl1 => ?_
  have hP2 := hP1'.one hl1
  rw [run_seq, run_set, aSz_e, kS_ok, sM_R17, sM_o17, run_seq, run_rn]
  have hP2' : PRM tk (ps1.1 + 1, ps1.2) ((o, base ++ ([] : List TR).map tv), g) j1 (n + 1) := by simpa using hP2
  have o1 := g1.2.2.1
  dsimp only at o1
  have hg11 := g1.1
  dsimp only at hg11
  have := m_seps (em := tv) (fo := ((o, base), g)) (W := false) (s := 41) (o := o) (base := base) (g := g) (by omega) (by omega) (by omega) (m_exB (Inv := fun L => L 1 = .int (nI ps.1) ∧ L 2 = .int (nI (2 * ps.2.2.2.2.1.length)) ∧ L 3 = tv d ∧ L 4 = .int (nI (o + base.length))) hEg hE (by omega)) LN LF [] (ps1.1 + 1, ps1.2) j1 j (va_up (va_up (va_up LV 2 (.int (nI (2 * ps.2.2.2.2.1.length)))) 3 (tv d)) 4 (.int (nI (o + base.length)))) (run [(zSeq (zEx (aCall (aM n) 33 [(aK 9)])) (zSeq (zOpF oSub 14 (aK 1)) (zSeq (zEx (aCall (aM n) 62 [(aL 2)])) (zRet (aCall (aM n) 16 [(aK 14), (aL 3), (aCall (aM n) 56 [(aL 4), (aL 1)]), (aK (-1)), (aL 1)])))))] nk) nk nk (j1.nn + 100 * (Tn tk - (ps1.1 + 1))) B (fun e es => pNeed tk 9 (pLeave fun ps2 => some (.inl ((14, tv d, tv (tSqL (nI ps.1) (e :: es)), no, nI ps.1), psFx ps2 (fxBk ps.2.2.2.2.1.length ps2.2.2.2))))) (by decide) hP2' hj1 ⟨by simpa [va_up] using l1, rfl, rfl, rfl⟩ (Nat.le_refl _) (fun e es ps3 j3 L3 r1 r2 r3 r4 r5 r6 => ?_)
  · simpa using this
  · rw [List.nil_append] at r4 ⊢
    obtain ⟨m1, m2, m3, m4⟩ := r5
    have hP3 : PRM tk ps3 ((o, base ++ (e :: es).map tv), g) j3 (n + 1) := hP2.nxe r1.e (hj1.l r2) r4
    have hil : fSm ((o, base ++ (e :: es).map tv), g) = o + (base.length + (es.length + 1)) + g.1 + g.2.length := by simp [fSm]
    rw [hil] at r4
    rw [run_seq, run_ex, aCall_1, aK_e, ab_ok, kE_ab]
    refine ctm_need (by omega) hP3 r2 fun hl3 => ?_
    have o3 := r1.2.2.1
    dsimp only at o3
    have hfr3 := hP3.2.2.2.2.2.1
    have hg31 := r1.1
    dsimp only at hg31
    have hun := m_undo (m := n) (ps := (ps3.1 + 1, ps3.2.1 - 1, ps3.2.2)) (f := ((o, base ++ (e :: es).map tv), g)) (j := j3) (mark := ps.2.2.2.2.1.length) (by omega) hP3.2.2.1 (by dsimp only; omega) (by omega)
    obtain ⟨cc, k1, k2⟩ := m_seqL (m := n) (ps := psFx (ps3.1 + 1, ps3.2.1 - 1, ps3.2.2) (fxBk ps.2.2.2.2.1.length ps3.2.2.2)) (j := j3) (by omega) (o := o) (base := base) (l := e :: es) (p := nI ps.1) (g := g) (by simp) (by simp; omega) (by simp; omega) (by simp; omega)
    simp only [List.length_cons] at k1
    have hmk := m_make (m := n) (ps := psFx (ps3.1 + 1, ps3.2.1 - 1, ps3.2.2) (fxBk ps.2.2.2.2.1.length ps3.2.2.2)) (f := ((o, base), g)) (j := mkN j3 cc) (k := 14) (p := nI ps.1) (a := tv d) (b := tv (tSqL (nI ps.1) (e :: es))) (c := .int (-1)) (by omega) (by rw [mkN_nn]; omega) (by decide) rfl rfl rfl
    rw [run_seq, run_opF, aK_e, kOF_ok, sM_f14, show oSub (nI ps3.2.1) 1 = nI (ps3.2.1 - 1) from nI_sub1 (by omega), sM_p14, run_seq, run_ex, aCall_1, aL_e, m2, ab_ok, hun, kE_ok, run_ret]
    have e5 : aCall (aM n) 16 [(aK 14), (aL 3), (aCall (aM n) 56 [(aL 4), (aL 1)]), (aK (-1)), (aL 1)] L3 (stM (psFx (ps3.1 + 1, ps3.2.1 - 1, ps3.2.2) (fxBk ps.2.2.2.2.1.length ps3.2.2.2)) ((o, base ++ (e :: es).map tv), g) j3) = some (some (tv (14, tv d, tv (tSqL (nI ps.1) (e :: es)), no, nI ps.1)), stM (psFx (ps3.1 + 1, ps3.2.1 - 1, ps3.2.2) (fxBk ps.2.2.2.2.1.length ps3.2.2.2)) ((o, base), g) (mkN (mkN j3 cc) 1)) := by
      unfold aCall
      simp only [aArgs, aCall_2, aK_e, aL_e, ab_ok, ab_ab, m1, m3, m4, k2, hmk]
    rw [show psFx (ps3.1 + 1, ps3.2.1 - 1, ps3.2.2) (fxBk ps.2.2.2.2.1.length (ps3.1 + 1, ps3.2.1 - 1, ps3.2.2).2.2.2) = psFx (ps3.1 + 1, ps3.2.1 - 1, ps3.2.2) (fxBk ps.2.2.2.2.1.length ps3.2.2.2) from rfl, e5]
    refine ctm_ret (v := ((14, tv d, tv (tSqL (nI ps.1) (e :: es)), no, nI ps.1) : TR)) (ps := psFx (ps3.1 + 1, ps3.2.1 - 1, ps3.2.2) (fxBk ps.2.2.2.2.1.length ps3.2.2.2)) ((r2.mk _).mk _) ?_
    rw [mkN_nn, mkN_nn]
    show _ + 100 * (Tn tk - (ps3.1 + 1)) ≤ B
    omega
theorem m_atomic {E D : PA TR} {c : Nat} (hEg : PGr tk E) (hE : CoM false tv tk c 30 12 [] E) (hDg : PGh tk D) (hD : CoMD tv tk c 5 [.int 0] D) : CoM false tv tk (max c 6 + 3) 50 53 [] (pAtom tk E D) := by
  intro k ps f j B hk hP hB
  obtain ⟨n, rfl⟩ := suc1 (m := k) (by omega)
  obtain ⟨ht, hT, hps, ha, ho, hfr, hS⟩ := id hP
  have hA : ALM = 30000 := rfl
  refine ctm_gE ?_
  rw [eM_atomic, zM_atomic, amth_run, List.length_nil, if_pos rfl, fin_ok, run_seq, run_set, aF_e, kS_ok, sM_f13, run_seq, run_if, aCall0_b (m_isC (by omega) ht hT ha)]
  cases hc : cstB tk ps.1 with
  | true =>
    have hlt : ps.1 < Tn tk := cst_lt hc
    have hL : ∀ A, aL 1 (va_up (A0of true []) 1 (.int (nI ps.1))) A = some (some (.int (nI ps.1)), A) := fun _ => rfl
    have e1 := mAt1 (ps := (ps.1 + 1, ps.2)) (f := f) ht hT hlt (hL (stM (ps.1 + 1, ps.2) f j))
    have emk := m_make (m := n) (ps := (ps.1 + 1, ps.2)) (f := f) (j := j) (k := 10) (p := nI ps.1) (a := .int (vAt tk ps.1)) (b := .int (-1)) (c := .int (-1)) (by omega) (by omega) (by decide) rfl rfl rfl
    have e5 : aCall (aM n) 16 [(aK 10), (aAt 1 (aL 1)), (aK (-1)), (aK (-1)), (aL 1)] (va_up (A0of true []) 1 (.int (nI ps.1))) (stM (ps.1 + 1, ps.2) f j) = some (some (tv (10, .int (vAt tk ps.1), no, no, nI ps.1)), stM (ps.1 + 1, ps.2) f (mkN j 1)) := by
      unfold aCall aArgs
      rw [aK_e, ab_ok]
      unfold aArgs
      rw [e1, ab_ok]
      exact emk
    rw [kI_t, run_seq, run_opF, aK_e, kOF_ok, sM_f13, show oAdd (nI ps.1) 1 = nI (ps.1 + 1) from nI_1 _, sM_p13, run_ret, e5]
    exact ctm_ret (ps := (ps.1 + 1, ps.2)) ((jfm.rf j).mk _) (by rw [mkN_nn]; dsimp only; omega)
  | false =>
    rw [kI_f, run_skip, run_seq, run_if, aCall0_b (m_isId (by omega) ht hT ha hps), if_neg (show ¬ false = true by decide)]
    cases hid : idB tk ps with
    | true =>
      obtain ⟨i1, i2, i3⟩ := id_k1 hid
      rw [kI_t, if_pos i2, pIdent_id hid, run_seq, run_set, aCall_1, aK_e, ab_ok, kS_ab]
      refine ctm_id (q := false) (by omega) hP (jfm.rf j) fun v a _ q1 q2 q3 hj1 hT1 => ?_
      have hfr1 : (a, ps.2).2.2.1 < 2 ^ 30 := by dsimp only; omega
      have emk := m_makeN (m := n) (ps := (a, ps.2)) (f := f) (j := apF j 19 v.2) (k := 11) (i := v.1) (p := nI ps.1) (b := .int v.2) (c := .int (-1)) (by omega) (show j.nn < ALM by omega) (by decide) q3 hfr1 rfl rfl
      have e19 : ∀ L : AL, aF 19 L (stM (a, ps.2) f (apF j 19 v.2)) = some (some (.int v.2), stM (a, ps.2) f (apF j 19 v.2)) := by
        intro L
        rw [aF_e, sM_f19]
        rfl
      rw [run_ret]
      have e5 : ∀ L : AL, L 1 = .int (nI ps.1) → L 2 = .int v.1 → aCall (aM n) 16 [(aK 11), (aL 2), (aF 19), (aK (-1)), (aL 1)] L (stM (a, ps.2) f (apF j 19 v.2)) = some (some (tv (11, .int v.1, .int v.2, no, nI ps.1)), stM (a, ps.2) f (mkN (apF j 19 v.2) 1)) := by
        intro L l1 l2
        unfold aCall
        simp only [aArgs, e19, aK_e, aL_e, ab_ok, l1, l2, emk]
      rw [e5 _ rfl rfl]
      exact ctm_ret (v := ((11, .int v.1, .int v.2, no, nI ps.1) : TR)) (ps := (a, ps.2)) (hj1.mk _) (by rw [mkN_nn]; show j.nn + 1 + _ ≤ B; dsimp only; omega)
    | false =>
      have h22 : sg tk ps.1 22 = false := by
        unfold idB at hid
        cases h : sg tk ps.1 22 with
        | false => rfl
        | true => rw [h, Bool.or_true] at hid; cases hid
      rw [kI_f, run_skip, run_seq, run_if, mS n (by omega) ht hT ha 33]
      by_cases hk1 : kAt tk ps.1 = 1
      · have hlt : ps.1 < Tn tk := k_lt (by rw [hk1]; decide)
        have hsg : ∀ s : Int32, sg tk ps.1 s = decide (vAt tk ps.1 = s) := fun s => by unfold sg; rw [decide_eq_true hk1, Bool.true_and]
        rw [if_neg (show ¬ (!decide (kAt tk ps.1 = 1) || sg tk ps.1 22) = true by rw [decide_eq_true hk1, h22]; decide), hsg 33]
        by_cases h33 : vAt tk ps.1 = 33
        · rw [decide_eq_true h33, kI_t, if_neg (by rw [h33]; decide), if_neg (by rw [h33]; decide), if_pos h33, run_ret, aCall_nil]
          exact m_round hEg hE n ps f j B (by omega) hP.dn (by omega)
        · rw [decide_eq_false h33, kI_f, run_skip, run_seq, run_if, mS n (by omega) ht hT ha 35, hsg 35]
          by_cases h35 : vAt tk ps.1 = 35
          · rw [decide_eq_true h35, kI_t, if_neg (by rw [h35]; decide), if_neg (by rw [h35]; decide), if_neg h33, if_pos h35]
            obtain ⟨⟨o, base⟩, g⟩ := f
            unfold pElms
            rw [run_seq, run_ex, aCall_nil, kE_ab]
            refine ctm_enter (by omega) hP (jfm.rf j) fun hop => ?_
            refine ctm_adv fun hlt => ?_
            have hlt : ps.1 < Tn tk := hlt
            have hP1 := hP.op hop hlt
            rw [run_seq, run_opF, aK_e, kOF_ok, sM_f13, show oAdd (nI ps.1) 1 = nI (ps.1 + 1) from nI_1 _, sM_p13, run_seq, run_set, aSz_e, kS_ok, sM_R17, sM_o17, run_seq, run_ex, aCall_1, aK_e, ab_ok, kE_ab]
            refine m_items (F := fun l => pret (tChain false (nI ps.1) l)) hEg hE (by omega) hP1 (jfm.rf j) (Nat.le_add_left _ _) fun l ps2 j2 r1 r2 r3 r4 r5 => ?_
            have hil : fSm ((o, base ++ l.map tv), g) = o + (base.length + l.length) + g.1 + g.2.length := by simp [fSm]
            rw [hil] at r5
            dsimp only at r4
            have hfr2 := r1.2.2.2.1
            dsimp only at hfr2
            have hr11 := r1.1
            dsimp only at hr11
            have e48 : aM n 48 [.int 0, .int (nI (o + base.length)), .int (nI ps.1)] (stM (ps2.1 + 1, ps2.2.1 - 1, ps2.2.2) ((o, base ++ l.map tv), g) j2) = some (some (tv (tChain false (nI ps.1) l)), stM (ps2.1 + 1, ps2.2.1 - 1, ps2.2.2) ((o, base), g) (mkN j2 (7 * l.length + 1))) := m_chain (q := false) (by omega) (by omega) (by omega) (by omega) (by dsimp only; omega)
            rw [run_ret]
            simp only [aCall, aArgs, aK, aL, ab_ok, A0of, va_up, List.length_nil, List.length_cons, List.getD_cons_zero, List.getD_cons_succ, List.getD_nil, if_true, if_false, Bool.not_not, Bool.not_true, Bool.not_false, Bool.false_eq_true, reduceIte, Nat.reduceSub, Nat.reduceAdd, Nat.reduceEqDiff, e48]
            exact ctm_ret (v := tChain false (nI ps.1) l) (ps := (ps2.1 + 1, ps2.2.1 - 1, ps2.2.2)) (r3.mk _) (by rw [mkN_nn]; dsimp only; omega)
          · rw [decide_eq_false h35, kI_f, run_skip, run_seq, run_if, mS n (by omega) ht hT ha 37, hsg 37]
            by_cases h37 : vAt tk ps.1 = 37
            · rw [decide_eq_true h37, kI_t, if_pos h37, run_ret, aCall_nil]
              obtain ⟨n, rfl⟩ := suc1 (m := n) (by omega)
              rw [eM_record, zM_record, amth_run, List.length_nil, if_pos rfl, fin_ok]
              exact m_rec0 (fk := 13) (s := 45) (k := 12) (by omega) (by decide) (by decide) hEg hE hP.dn (by omega)
            · rw [decide_eq_false h37, kI_f, run_skip, if_neg h37, run_seq, run_if, m_eatB (by omega) hP 48, hsg 48]
              by_cases h48 : vAt tk ps.1 = 48
              · rw [decide_eq_true h48, if_pos rfl, kI_t, if_pos h48]
                exact m_selector (by omega) hP (by omega) hlt rfl
              · rw [decide_eq_false h48, if_neg (show ¬ false = true by decide), kI_f, run_skip, if_neg h48, if_neg h33, if_neg h35, run_seq, run_if, bNot_e (mS n (by omega) ht hT ha 18), hsg 18]
                by_cases h18 : vAt tk ps.1 = 18
                · rw [decide_eq_true h18, Bool.not_true, kI_f, run_skip, if_pos h18]
                  exact m_letM hEg hE hDg hD (by omega) hP (by omega) rfl
                · rw [decide_eq_false h18, Bool.not_false, kI_t, if_neg h18, run_ex, aCall_nil, m_stop (by omega), kE_no]
                  exact ctm_flt (jfm.rf j)
      · have hsg : ∀ s : Int32, sg tk ps.1 s = false := fun s => by unfold sg; rw [decide_eq_false hk1, Bool.false_and]
        have hpi : pIdent tk 11 false ps = pflt 1 ps := by
          unfold idB at hid
          simp only [Bool.or_eq_false_iff] at hid
          obtain ⟨⟨x1, x2⟩, x3⟩ := hid
          unfold pIdent
          rw [if_neg (by rw [h22]; decide), if_neg (of_decide_eq_false x2), if_neg (by rw [x1]; decide)]
        rw [if_pos (show (!decide (kAt tk ps.1 = 1) || sg tk ps.1 22) = true by rw [decide_eq_false hk1]; rfl), hpi, hsg 33, kI_f, run_skip, run_seq, run_if, mS n (by omega) ht hT ha 35, hsg 35, kI_f, run_skip, run_seq, run_if, mS n (by omega) ht hT ha 37, hsg 37, kI_f, run_skip, run_seq, run_if, m_eatB (by omega) hP 48, hsg 48, if_neg (show ¬ false = true by decide), kI_f, run_skip, run_seq, run_if, bNot_e (mS n (by omega) ht hT ha 18), hsg 18, Bool.not_false, kI_t, run_ex, aCall_nil, m_stop (by omega), kE_no]
        exact ctm_flt (jfm.rf j)
end MAT
