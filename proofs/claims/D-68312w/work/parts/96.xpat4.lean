/-! X: patterns -/
section XPU
variable {tk : TK} {ps ps' : PS} {f f' : FX} {j j' : AS} {m n k k' : Nat} {A : AS} {W : Bool}
theorem PRX.nxe (h : PRX tk ps f j k) (hg : PGe tk ps ps') (hj : je W j j') (hS : fS f' + j'.nn + 8 * k' + 100 * (Tn tk - ps'.1) ≤ 29000) : PRX tk ps' f' j' k' := by
  obtain ⟨ht, hps, ha, ho, hfr, hfl, _⟩ := h
  obtain ⟨h1, h2, h3, h4, h5⟩ := hg
  exact ⟨ht, h5, h2, by rw [h3]; exact ho, by omega, by rw [hj.1]; exact hfl, hS⟩
theorem nI_2 (a : Nat) : nI a + 2 = nI (a + 2) := by
  rw [show (2 : Int32) = 1 + 1 from rfl, ← Int32.add_assoc, nI_1, nI_1]
theorem x_cols_loop {α : Type} {em : α → V} {fo : FX} {ty : PA TR} {b : Nat} {t : TR} (hn : 3 ≤ n) (htg : PGr tk ty)
    (hv : ∀ ps f j B, PRX tk ps f j n → j.nn + 100 * (Tn tk - ps.1) ≤ B + 30 → CTx W tv tk f j B (aX n 38 [] (stX tk ps f j)) (ty ps)) (N : Nat) :
    ∀ (M : Nat) (don : List TR) (ps : PS) (j j0 : AS) (LV : AL) (K B0 C0 : KT) (B1 B : Nat) (F : List TR → PA α), M ≤ N → PRX tk ps f j (n + 1) → je W j0 j → j.nn + 100 * (Tn tk - ps.1) ≤ B1 → LV 1 = .int (nI b) → LV 2 = tv (tTyd 36 b t don) → LV 4 = .int (nI don.length) →
    (∀ ts ps' j' LV', PGe tk ps ps' → je W j0 j' → j'.nn + 100 * (Tn tk - ps'.1) + 50 * ts.length ≤ B1 → fS f + j'.nn + 8 * (n + 1) + 100 * (Tn tk - ps'.1) ≤ 29000 → LV' 1 = LV 1 → LV' 3 = LV 3 → LV' 2 = tv (tTyd 36 b t (don ++ ts)) → LV' 4 = .int (nI (don ++ ts).length) → CTx W em tk fo j0 B (K LV' (stX tk ps' f j')) (F ts ps')) →
    CTx W em tk fo j0 B (rn (zWh (N + 1) (bZ .ne (aCall (aX n) 10 [(aK 40)])) (zSeq (zSet 2 (aCall (aX n) 21 [(aK 36), (aL 2), (aCall (aX n) 38 []), (aK (-1)), (aL 1)])) (zInc 4 1)) zSkip LV (stX tk ps f j)) K B0 C0) (pb (pCols tk ty M) F ps) := by
  induction N with
  | zero =>
    intro M don ps j j0 LV K B0 C0 B1 B F hM
    have : M = 0 := by omega
    subst this
    intros
    exact trivial
  | succ N ih =>
    intro M don ps j j0 LV K B0 C0 B1 B F hM hP hj hB h1 h2 h4 hK
    cases M with
    | zero => exact trivial
    | succ M =>
      obtain ⟨ht, hps, ha, ho, hfr, hfl, hS⟩ := id hP
      have ha2 : ps.1 ≤ tk.1.length := ha
      have hA : ALM = 30000 := rfl
      rw [rn_wh]
      cases hc : sg tk ps.1 40 with
      | false =>
        rw [pb_val (v := []) (ps' := ps) (by simp only [pCols, hc, A0of, va_up, List.length_nil, List.length_cons, List.getD_cons_zero, List.getD_cons_succ, List.getD_nil, if_true, if_false, Bool.not_not, Bool.not_true, Bool.not_false, Bool.false_eq_true, reduceIte, Nat.reduceSub, Nat.reduceAdd, Nat.reduceEqDiff])]
        simp (disch := first | assumption | omega | (simp only [pr0_1, pr1_1, pr2_1, pr0_10, pr1_10, pr2_10, pr0_11, pr1_11, pr2_11, pr0_12, pr1_12, pr2_12, pr0_13, pr1_13, pr2_13, pr0_14, pr1_14, pr2_14, pr0_15, pr1_15, pr2_15, pr0_16, pr1_16, pr2_16, pr0_17, pr1_17, pr2_17, pr0_18, pr1_18, pr2_18, pr0_19, pr1_19, pr2_19, pr0_20, pr1_20, pr2_20, pr0_30, pr1_30, pr2_30, pr0_31, pr1_31, pr2_31, pr0_32, pr1_32, pr2_32, pr0_33, pr1_33, pr2_33, pr0_34, pr1_34, pr2_34, pr0_35, pr1_35, pr2_35, pr0_36, pr1_36, pr2_36, pr0_37, pr1_37, pr2_37, pr0_50, pr1_50, pr2_50, pr0_51, pr1_51, pr2_51, pr0_52, pr1_52, pr2_52, pr0_53, pr1_53, pr2_53, pr0_54, pr1_54, pr2_54, pr0_70, pr1_70, pr2_70, pr0_71, pr1_71, pr2_71, pr0_72, pr1_72, pr2_72, pr0_73, pr1_73, pr2_73, pr0_74, pr1_74, pr2_74, pr0_75, pr1_75, pr2_75, pr0_76, pr1_76, pr2_76, pr0_77, pr1_77, pr2_77, pr0_78, pr1_78, pr2_78, pr0_79, pr1_79, pr2_79, pr0_80, pr1_80, pr2_80, pr0_81, pr1_81, pr2_81, pr0_82, pr1_82, pr2_82, pr0_83, pr1_83, pr2_83, pr0_84, pr1_84, pr2_84, okF_tv, okF_no, okF_n1, okF_i, okLi, okOv, ok33] <;> assumption) | decide | (simp only [mkN_nn, mkN_fl, sX_fl, sX_nn, List.length_append, List.length_cons, List.length_nil, List.length_map]; omega) | (dsimp only; omega)) only [amth_eq, rn_seq, rn_if, rn_set, rn_inc, rn_ex, rn_ret, rn_ret0, rn_skip, rn_putF, rn_opF, rn_opU, rn_putS, rn_opS, rn_at, rn_atB, rn_add, rn_swap, rn_sw, rn_brk, rn_cnt, fin_ok, fin_ab, fin_ite, fin_og, fin_b, fin_0, fin_1, fin_v, fin_no, fin_none, d10, eq_self, decide_true, decide_false, ti_b, b2i_t, b2i_f, aK, aL, aF, aSz, aBin, aDiv, aB, aAt, aNd, aArgs, aCall, aIf, bCmp, bZ, bAnd, bOr, bNot, bTT, bIf, ab_ok, ab_no, ab_none, ab_ab, ab_ite, aok_ok, aok_none, og_ok, og_none, vbin_i, vb8_i, vput_i, vI_i, cmp_i, hold_eq, hold_ne, hold_lt, hold_ge, hold_gt, hold_le, b2i_0, ss_b, ss_ite, oAdd, oSub, oMul, Option.bind_some, A0of, va_up, List.length_nil, List.length_cons, List.getD_cons_zero, List.getD_cons_succ, List.getD_nil, if_true, if_false, Bool.not_not, Bool.not_true, Bool.not_false, Bool.false_eq_true, reduceIte, Nat.reduceSub, Nat.reduceAdd, Nat.reduceEqDiff, x_takes, hc]
        exact hK [] ps j LV (PGe.rf hps ha) hj (by simpa using hB) hS rfl rfl (by simpa using h2) (by simpa using h4)
      | true =>
        have hlt : ps.1 < Tn tk := sg_lt hc
        rw [pb_at (p' := pb ty fun t => pb (pCols tk ty M) fun ts => pret (t :: ts)) (ps' := (ps.1 + 1, ps.2)) (by simp only [pCols, hc, A0of, va_up, List.length_nil, List.length_cons, List.getD_cons_zero, List.getD_cons_succ, List.getD_nil, if_true, if_false, Bool.not_not, Bool.not_true, Bool.not_false, Bool.false_eq_true, reduceIte, Nat.reduceSub, Nat.reduceAdd, Nat.reduceEqDiff]), pb_pb]
        simp (disch := first | assumption | omega | (simp only [pr0_1, pr1_1, pr2_1, pr0_10, pr1_10, pr2_10, pr0_11, pr1_11, pr2_11, pr0_12, pr1_12, pr2_12, pr0_13, pr1_13, pr2_13, pr0_14, pr1_14, pr2_14, pr0_15, pr1_15, pr2_15, pr0_16, pr1_16, pr2_16, pr0_17, pr1_17, pr2_17, pr0_18, pr1_18, pr2_18, pr0_19, pr1_19, pr2_19, pr0_20, pr1_20, pr2_20, pr0_30, pr1_30, pr2_30, pr0_31, pr1_31, pr2_31, pr0_32, pr1_32, pr2_32, pr0_33, pr1_33, pr2_33, pr0_34, pr1_34, pr2_34, pr0_35, pr1_35, pr2_35, pr0_36, pr1_36, pr2_36, pr0_37, pr1_37, pr2_37, pr0_50, pr1_50, pr2_50, pr0_51, pr1_51, pr2_51, pr0_52, pr1_52, pr2_52, pr0_53, pr1_53, pr2_53, pr0_54, pr1_54, pr2_54, pr0_70, pr1_70, pr2_70, pr0_71, pr1_71, pr2_71, pr0_72, pr1_72, pr2_72, pr0_73, pr1_73, pr2_73, pr0_74, pr1_74, pr2_74, pr0_75, pr1_75, pr2_75, pr0_76, pr1_76, pr2_76, pr0_77, pr1_77, pr2_77, pr0_78, pr1_78, pr2_78, pr0_79, pr1_79, pr2_79, pr0_80, pr1_80, pr2_80, pr0_81, pr1_81, pr2_81, pr0_82, pr1_82, pr2_82, pr0_83, pr1_83, pr2_83, pr0_84, pr1_84, pr2_84, okF_tv, okF_no, okF_n1, okF_i, okLi, okOv, ok33] <;> assumption) | decide | (simp only [mkN_nn, mkN_fl, sX_fl, sX_nn, List.length_append, List.length_cons, List.length_nil, List.length_map]; omega) | (dsimp only; omega)) only [amth_eq, rn_seq, rn_if, rn_set, rn_inc, rn_ex, rn_ret, rn_ret0, rn_skip, rn_putF, rn_opF, rn_opU, rn_putS, rn_opS, rn_at, rn_atB, rn_add, rn_swap, rn_sw, rn_brk, rn_cnt, fin_ok, fin_ab, fin_ite, fin_og, fin_b, fin_0, fin_1, fin_v, fin_no, fin_none, d10, eq_self, decide_true, decide_false, ti_b, b2i_t, b2i_f, aK, aL, aF, aSz, aBin, aDiv, aB, aAt, aNd, aArgs, aCall, aIf, bCmp, bZ, bAnd, bOr, bNot, bTT, bIf, ab_ok, ab_no, ab_none, ab_ab, ab_ite, aok_ok, aok_none, og_ok, og_none, vbin_i, vb8_i, vput_i, vI_i, cmp_i, hold_eq, hold_ne, hold_lt, hold_ge, hold_gt, hold_le, b2i_0, ss_b, ss_ite, oAdd, oSub, oMul, Option.bind_some, A0of, va_up, List.length_nil, List.length_cons, List.getD_cons_zero, List.getD_cons_succ, List.getD_nil, if_true, if_false, Bool.not_not, Bool.not_true, Bool.not_false, Bool.false_eq_true, reduceIte, Nat.reduceSub, Nat.reduceAdd, Nat.reduceEqDiff, x_takes, hc, h1, h2]
        have hP1 : PRX tk (ps.1 + 1, ps.2) f j (n + 1) := hP.at (by omega) hlt (je.rf (W := W) j) (by omega)
        refine ctx_bind (B1 := j.nn + 100 * (Tn tk - (ps.1 + 1)) - 30) hj (hv (ps.1 + 1, ps.2) _ j _ (hP1.at (Nat.le_refl _) hlt (je.rf (W := W) j) (by first | omega | (dsimp only; omega))) (by first | omega | (dsimp only; omega))) fun y ps' j' hp hj' hB' => ?_
        have hg := htg (ps.1 + 1, ps.2) y ps' hps hp
        obtain ⟨g1, g2, g3, g4, g5⟩ := id hg
        dsimp only at g1 g3 g4
        simp (disch := first | assumption | omega | (simp only [pr0_1, pr1_1, pr2_1, pr0_10, pr1_10, pr2_10, pr0_11, pr1_11, pr2_11, pr0_12, pr1_12, pr2_12, pr0_13, pr1_13, pr2_13, pr0_14, pr1_14, pr2_14, pr0_15, pr1_15, pr2_15, pr0_16, pr1_16, pr2_16, pr0_17, pr1_17, pr2_17, pr0_18, pr1_18, pr2_18, pr0_19, pr1_19, pr2_19, pr0_20, pr1_20, pr2_20, pr0_30, pr1_30, pr2_30, pr0_31, pr1_31, pr2_31, pr0_32, pr1_32, pr2_32, pr0_33, pr1_33, pr2_33, pr0_34, pr1_34, pr2_34, pr0_35, pr1_35, pr2_35, pr0_36, pr1_36, pr2_36, pr0_37, pr1_37, pr2_37, pr0_50, pr1_50, pr2_50, pr0_51, pr1_51, pr2_51, pr0_52, pr1_52, pr2_52, pr0_53, pr1_53, pr2_53, pr0_54, pr1_54, pr2_54, pr0_70, pr1_70, pr2_70, pr0_71, pr1_71, pr2_71, pr0_72, pr1_72, pr2_72, pr0_73, pr1_73, pr2_73, pr0_74, pr1_74, pr2_74, pr0_75, pr1_75, pr2_75, pr0_76, pr1_76, pr2_76, pr0_77, pr1_77, pr2_77, pr0_78, pr1_78, pr2_78, pr0_79, pr1_79, pr2_79, pr0_80, pr1_80, pr2_80, pr0_81, pr1_81, pr2_81, pr0_82, pr1_82, pr2_82, pr0_83, pr1_83, pr2_83, pr0_84, pr1_84, pr2_84, okF_tv, okF_no, okF_n1, okF_i, okLi, okOv, ok33] <;> assumption) | decide | (simp only [mkN_nn, mkN_fl, sX_fl, sX_nn, List.length_append, List.length_cons, List.length_nil, List.length_map]; omega) | (dsimp only; omega)) only [amth_eq, rn_seq, rn_if, rn_set, rn_inc, rn_ex, rn_ret, rn_ret0, rn_skip, rn_putF, rn_opF, rn_opU, rn_putS, rn_opS, rn_at, rn_atB, rn_add, rn_swap, rn_sw, rn_brk, rn_cnt, fin_ok, fin_ab, fin_ite, fin_og, fin_b, fin_0, fin_1, fin_v, fin_no, fin_none, d10, eq_self, decide_true, decide_false, ti_b, b2i_t, b2i_f, aK, aL, aF, aSz, aBin, aDiv, aB, aAt, aNd, aArgs, aCall, aIf, bCmp, bZ, bAnd, bOr, bNot, bTT, bIf, ab_ok, ab_no, ab_none, ab_ab, ab_ite, aok_ok, aok_none, og_ok, og_none, vbin_i, vb8_i, vput_i, vI_i, cmp_i, hold_eq, hold_ne, hold_lt, hold_ge, hold_gt, hold_le, b2i_0, ss_b, ss_ite, Option.bind_some, A0of, va_up, List.length_nil, List.length_cons, List.getD_cons_zero, List.getD_cons_succ, List.getD_nil, if_true, if_false, Bool.not_not, Bool.not_true, Bool.not_false, Bool.false_eq_true, reduceIte, Nat.reduceSub, Nat.reduceAdd, Nat.reduceEqDiff, x_make, pb_pb, pret_pb, h4]
        refine ih M (don ++ [y]) ps' (mkN j' 1) j0 _ K B0 C0 (B1 - 50) B _ (by omega) (hP1.nx hg ((hj.l hj').mk _) (by first | omega | (simp only [mkN_nn]; omega))) (hj'.mk _) (by first | omega | (simp only [mkN_nn]; omega)) (by simpa [va_up] using h1) ?_ ?_ fun ts ps'' j'' LV'' r1 r2 r3 r4 r5 r6 r7 r8 => hK (y :: ts) ps'' j'' LV'' ⟨by have := r1.1; omega, r1.2.1, r1.2.2.1.trans g3, by have := r1.2.2.2.1; omega, r1.2.2.2.2⟩ r2 (by simp; omega) r4 (r5.trans (by simp [va_up])) (r6.trans (by simp [va_up])) (by simpa using r7) (by simpa using r8)
        · simp [va_up, tTyd]
        · simp [va_up, oAdd, nI]
theorem x_pattern {ty pat : PA TR} {c : Nat} (hpg : PGr tk pat) (hpt : CoX W tk c 30 26 [] pat) (hty : CoX W tk c 30 38 [] ty) (htg : PGr tk ty) (hin : CoX W tk c 30 52 [.int 1] pat) : CoX W tk (max c 6 + 7) 30 26 [] (pPat tk ty pat) := by
  have h1 := x_applied (x_atomicPattern hpg hpt hty htg hin)
  have h2 := x_infix (q := true) pgr_grT h1
  intro k ps f j B hk hP hB; have hP0 := hP; obtain ⟨ht, hps, ha, ho, hfr, hfl, hS⟩ := hP0; obtain ⟨n, rfl⟩ := suc1 (m := k) (by omega); have hf2 : 0 < (stX tk ps f j).fl := hfl; have ha2 : ps.1 ≤ tk.1.length := ha; have hA : ALM = 30000 := rfl
  refine ctx_grT ?_
  simp only [eX_pattern, zX_pattern, amth_run, run_seq, run_set, fin_ok, aF, kS_ok, A0of, va_up, List.length_nil, List.length_cons, List.getD_cons_zero, List.getD_cons_succ, List.getD_nil, if_true, if_false, Bool.not_not, Bool.not_true, Bool.not_false, Bool.false_eq_true, reduceIte, Nat.reduceSub, Nat.reduceAdd, Nat.reduceEqDiff, sX_f3, sX_f17, sX_f18, sX_f21, sX_R0, sX_R1, sX_R2, sX_R10, sX_R11, sX_R12, sX_R13, sX_R14, sX_R15, sX_o0, sX_o1, sX_o2, sX_o10, sX_o11, sX_o12, sX_o13, sX_o14, sX_o15, sX_nn, sX_fl]
  rw [show aCall (aX n) 27 [aK 1] = fun L A => aX n 27 [.int 1] A from rfl, kS_ab]
  refine ctx_bindT (B1 := j.nn + 100 * (Tn tk - ps.1) - 40) (je.rf (W := W) j) (ctx_grT (h2 n ps f j _ (by omega) (hP.at (Nat.le_refl _) ha (je.rf (W := W) j) (by omega)) (by omega))) fun t a j1 g1 g2 hj1 hB1 => ?_
  by_cases hz : t.1 = 32 ∧ vI t.2.1 = none
  · rw [if_pos hz]
    exact trivial
  · rw [if_neg hz]
    have hlen := ht.2.2.1
    have hT : Tn tk = tk.1.length := rfl
    have e3 : ∀ LV : AL, LV 1 = .int (nI ps.1) → LV 2 = tv t → (aIf (bAnd (bAnd (bCmp .eq (aNd (fun i => i) 0 (aL 2)) (aK 32)) (bZ .ge (aNd (fun i => i) 1 (aL 2)))) (bCmp .eq (aF 3) (aBin oAdd (aL 1) (aIf (bZ .ne (aCall (aX n) 83 [(aL 1)])) (aK 2) (aK 1))))) (aK 1) (aK 0)) LV (stX tk (a, ps.2) f j1) = some (some (.int (b2i (patV tk ps.1 a t))), stX tk (a, ps.2) f j1) := by
      intro LV q1 q2
      unfold patV
      by_cases hk : t.1 = 32
      · match hi : vI t.2.1 with
        | none => exact absurd ⟨hk, hi⟩ hz
        | some i =>
          have e1 : patN t = i := by simp [patN, hi]
          rw [e1]
          by_cases h0 : 0 ≤ i
          · have hlt : ps.1 < Tn tk := by omega
            have hop := x_isOpAt (tk := tk) (ps := (a, ps.2)) (f := f) (j := j1) (m := n) (by omega) ht hlt
            cases h22 : sg tk ps.1 22 with
            | true =>
              have e2 : decide (nI a = nI ps.1 + 2) = decide (a = ps.1 + 2) := by
                rw [nI_2, decide_eq_decide]
                exact nI_eq (by omega) (by omega)
              simp only [d10, eq_self, decide_true, decide_false, ti_b, b2i_t, b2i_f, aK, aL, aF, aSz, aBin, aDiv, aB, aAt, aNd, aArgs, aCall, aIf, bCmp, bZ, bAnd, bOr, bNot, bTT, bIf, ab_ok, ab_no, ab_none, ab_ab, ab_ite, aok_ok, aok_none, og_ok, og_none, vbin_i, vb8_i, vput_i, vI_i, cmp_i, hold_eq, hold_ne, hold_lt, hold_ge, hold_gt, hold_le, b2i_0, ss_b, ss_ite, Option.bind_some, A0of, va_up, List.length_nil, List.length_cons, List.getD_cons_zero, List.getD_cons_succ, List.getD_nil, if_true, if_false, Bool.not_not, Bool.not_true, Bool.not_false, Bool.false_eq_true, reduceIte, Nat.reduceSub, Nat.reduceAdd, Nat.reduceEqDiff, sX_f3, sX_f17, sX_f18, sX_f21, sX_R0, sX_R1, sX_R2, sX_R10, sX_R11, sX_R12, sX_R13, sX_R14, sX_R15, sX_o0, sX_o1, sX_o2, sX_o10, sX_o11, sX_o12, sX_o13, sX_o14, sX_o15, sX_nn, sX_fl, q1, q2, nd0, nd1i hi, hk, h0, hop, h22, oAdd, e2, Bool.true_and]
            | false =>
              have e2 : decide (nI a = nI ps.1 + 1) = decide (a = ps.1 + 1) := by
                rw [nI_1, decide_eq_decide]
                exact nI_eq (by omega) (by omega)
              simp only [d10, eq_self, decide_true, decide_false, ti_b, b2i_t, b2i_f, aK, aL, aF, aSz, aBin, aDiv, aB, aAt, aNd, aArgs, aCall, aIf, bCmp, bZ, bAnd, bOr, bNot, bTT, bIf, ab_ok, ab_no, ab_none, ab_ab, ab_ite, aok_ok, aok_none, og_ok, og_none, vbin_i, vb8_i, vput_i, vI_i, cmp_i, hold_eq, hold_ne, hold_lt, hold_ge, hold_gt, hold_le, b2i_0, ss_b, ss_ite, Option.bind_some, A0of, va_up, List.length_nil, List.length_cons, List.getD_cons_zero, List.getD_cons_succ, List.getD_nil, if_true, if_false, Bool.not_not, Bool.not_true, Bool.not_false, Bool.false_eq_true, reduceIte, Nat.reduceSub, Nat.reduceAdd, Nat.reduceEqDiff, sX_f3, sX_f17, sX_f18, sX_f21, sX_R0, sX_R1, sX_R2, sX_R10, sX_R11, sX_R12, sX_R13, sX_R14, sX_R15, sX_o0, sX_o1, sX_o2, sX_o10, sX_o11, sX_o12, sX_o13, sX_o14, sX_o15, sX_nn, sX_fl, q1, q2, nd0, nd1i hi, hk, h0, hop, h22, oAdd, e2, Bool.true_and]
          · simp only [d10, eq_self, decide_true, decide_false, ti_b, b2i_t, b2i_f, aK, aL, aF, aSz, aBin, aDiv, aB, aAt, aNd, aArgs, aCall, aIf, bCmp, bZ, bAnd, bOr, bNot, bTT, bIf, ab_ok, ab_no, ab_none, ab_ab, ab_ite, aok_ok, aok_none, og_ok, og_none, vbin_i, vb8_i, vput_i, vI_i, cmp_i, hold_eq, hold_ne, hold_lt, hold_ge, hold_gt, hold_le, b2i_0, ss_b, ss_ite, Option.bind_some, A0of, va_up, List.length_nil, List.length_cons, List.getD_cons_zero, List.getD_cons_succ, List.getD_nil, if_true, if_false, Bool.not_not, Bool.not_true, Bool.not_false, Bool.false_eq_true, reduceIte, Nat.reduceSub, Nat.reduceAdd, Nat.reduceEqDiff, sX_f3, sX_f17, sX_f18, sX_f21, sX_R0, sX_R1, sX_R2, sX_R10, sX_R11, sX_R12, sX_R13, sX_R14, sX_R15, sX_o0, sX_o1, sX_o2, sX_o10, sX_o11, sX_o12, sX_o13, sX_o14, sX_o15, sX_nn, sX_fl, q1, q2, nd0, nd1i hi, hk, h0, Bool.true_and, Bool.false_and, Bool.and_false]
      · simp only [d10, eq_self, decide_true, decide_false, ti_b, b2i_t, b2i_f, aK, aL, aF, aSz, aBin, aDiv, aB, aAt, aNd, aArgs, aCall, aIf, bCmp, bZ, bAnd, bOr, bNot, bTT, bIf, ab_ok, ab_no, ab_none, ab_ab, ab_ite, aok_ok, aok_none, og_ok, og_none, vbin_i, vb8_i, vput_i, vI_i, cmp_i, hold_eq, hold_ne, hold_lt, hold_ge, hold_gt, hold_le, b2i_0, ss_b, ss_ite, Option.bind_some, A0of, va_up, List.length_nil, List.length_cons, List.getD_cons_zero, List.getD_cons_succ, List.getD_nil, if_true, if_false, Bool.not_not, Bool.not_true, Bool.not_false, Bool.false_eq_true, reduceIte, Nat.reduceSub, Nat.reduceAdd, Nat.reduceEqDiff, sX_f3, sX_f17, sX_f18, sX_f21, sX_R0, sX_R1, sX_R2, sX_R10, sX_R11, sX_R12, sX_R13, sX_R14, sX_R15, sX_o0, sX_o1, sX_o2, sX_o10, sX_o11, sX_o12, sX_o13, sX_o14, sX_o15, sX_nn, sX_fl, q1, q2, nd0, hk, Bool.true_and, Bool.false_and]
    rw [run_seq, run_set, e3 _ rfl rfl]
    simp only [kS_ok, run_seq, run_set, aK]
    rw [run_rn]
    refine x_cols_loop (n := n) (t := t) (b := ps.1) (by omega) htg (fun ps f j B h1 h2 => hty n ps f j B (by omega) h1 h2) 99999 LF [] (a, ps.2) j1 j _ _ nk nk (j1.nn + 100 * (Tn tk - a)) B _ (by decide) (hP.at (by omega) g2 hj1 (by omega)) hj1 (Nat.le_refl _) rfl rfl rfl fun ts ps2 j2 LV r1 r2 r3 r4 r5 r6 r7 r8 => ?_
    have r5 : LV 1 = .int (nI ps.1) := r5
    have r6 : LV 3 = .int (b2i (patV tk ps.1 a t)) := r6
    have r7 : LV 2 = tv (tTyd 36 ps.1 t ts) := r7
    have r8 : LV 4 = .int (nI ts.length) := r8
    obtain ⟨c1, c2, c3, c4, c5⟩ := id r1
    have hb2 : ps2.1 ≤ tk.1.length := c2
    dsimp only at c1 c3 c4
    have hP2 : PRX tk ps2 f j2 n := (hP.at (Nat.le_of_lt g1) g2 hj1 (f' := f) (k' := n) (by omega)).nxe r1 (hj1.l r2) (by omega)
    cases h4 : sg tk ps2.1 4 with
    | false =>
      simp (disch := first | assumption | omega | (simp only [pr0_1, pr1_1, pr2_1, pr0_10, pr1_10, pr2_10, pr0_11, pr1_11, pr2_11, pr0_12, pr1_12, pr2_12, pr0_13, pr1_13, pr2_13, pr0_14, pr1_14, pr2_14, pr0_15, pr1_15, pr2_15, pr0_16, pr1_16, pr2_16, pr0_17, pr1_17, pr2_17, pr0_18, pr1_18, pr2_18, pr0_19, pr1_19, pr2_19, pr0_20, pr1_20, pr2_20, pr0_30, pr1_30, pr2_30, pr0_31, pr1_31, pr2_31, pr0_32, pr1_32, pr2_32, pr0_33, pr1_33, pr2_33, pr0_34, pr1_34, pr2_34, pr0_35, pr1_35, pr2_35, pr0_36, pr1_36, pr2_36, pr0_37, pr1_37, pr2_37, pr0_50, pr1_50, pr2_50, pr0_51, pr1_51, pr2_51, pr0_52, pr1_52, pr2_52, pr0_53, pr1_53, pr2_53, pr0_54, pr1_54, pr2_54, pr0_70, pr1_70, pr2_70, pr0_71, pr1_71, pr2_71, pr0_72, pr1_72, pr2_72, pr0_73, pr1_73, pr2_73, pr0_74, pr1_74, pr2_74, pr0_75, pr1_75, pr2_75, pr0_76, pr1_76, pr2_76, pr0_77, pr1_77, pr2_77, pr0_78, pr1_78, pr2_78, pr0_79, pr1_79, pr2_79, pr0_80, pr1_80, pr2_80, pr0_81, pr1_81, pr2_81, pr0_82, pr1_82, pr2_82, pr0_83, pr1_83, pr2_83, pr0_84, pr1_84, pr2_84, okF_tv, okF_no, okF_n1, okF_i, okLi, okOv, ok33] <;> assumption) | decide | (simp only [mkN_nn, mkN_fl, sX_fl, sX_nn, List.length_append, List.length_cons, List.length_nil, List.length_map]; omega) | (dsimp only; omega)) only [amth_run, run_nil, run_seq, run_skip, run_ret0, run_ret, run_set, run_inc, run_ex, run_if, run_putF, run_opF, run_opU, run_putS, run_opS, run_add, run_at, run_atB, run_sw, kS_ok, kS_no, kE_ok, kE_no, kI_t, kI_f, kI_no, kPF_ok, kOF_ok, kPS_ok, kOS_ok, kAD_ok, kAD_no, kT1_ok, kT2_ok, kB1_ok, kB2_ok, kSw_ok, fin_ok, fin_b, fin_0, fin_1, fin_v, fin_no, fin_none, d10, eq_self, decide_true, decide_false, ti_b, b2i_t, b2i_f, aK, aL, aF, aSz, aBin, aDiv, aB, aAt, aNd, aArgs, aCall, aIf, bCmp, bZ, bAnd, bOr, bNot, bTT, bIf, ab_ok, ab_no, ab_none, ab_ab, ab_ite, aok_ok, aok_none, og_ok, og_none, vbin_i, vb8_i, vput_i, vI_i, cmp_i, hold_eq, hold_ne, hold_lt, hold_ge, hold_gt, hold_le, b2i_0, ss_b, ss_ite, oAdd, oSub, oMul, Option.bind_some, A0of, va_up, List.length_nil, List.length_cons, List.getD_cons_zero, List.getD_cons_succ, List.getD_nil, if_true, if_false, Bool.not_not, Bool.not_true, Bool.not_false, Bool.false_eq_true, reduceIte, Nat.reduceSub, Nat.reduceAdd, Nat.reduceEqDiff, x_isSign, h4, r7]
      exact ctx_ret r2 (by omega)
    | true =>
      have hfl2 : ∀ ps', 0 < (stX tk ps' f j2).fl := fun _ => by show 0 < j2.fl; rw [r2.1]; exact hfl
      have hlt4 : ps2.1 < Tn tk := sg_lt h4
      cases hq : (patV tk ps.1 a t && decide (ts.length < 2)) with
      | false =>
        cases hv : patV tk ps.1 a t with
        | false =>
          simp (disch := first | assumption | omega | exact hfl2 _) only [amth_run, run_nil, run_seq, run_skip, run_ret0, run_ret, run_set, run_inc, run_ex, run_if, run_putF, run_opF, run_opU, run_putS, run_opS, run_add, run_at, run_atB, run_sw, kS_ok, kS_no, kE_ok, kE_no, kI_t, kI_f, kI_no, kPF_ok, kOF_ok, kPS_ok, kOS_ok, kAD_ok, kAD_no, kT1_ok, kT2_ok, kB1_ok, kB2_ok, kSw_ok, fin_ok, fin_b, fin_0, fin_1, fin_v, fin_no, fin_none, d10, eq_self, decide_true, decide_false, ti_b, b2i_t, b2i_f, aK, aL, aF, aSz, aBin, aDiv, aB, aAt, aNd, aArgs, aCall, aIf, bCmp, bZ, bAnd, bOr, bNot, bTT, bIf, ab_ok, ab_no, ab_none, ab_ab, ab_ite, aok_ok, aok_none, og_ok, og_none, vbin_i, vb8_i, vput_i, vI_i, cmp_i, hold_eq, hold_ne, hold_lt, hold_ge, hold_gt, hold_le, b2i_0, ss_b, ss_ite, oAdd, oSub, oMul, Option.bind_some, A0of, va_up, List.length_nil, List.length_cons, List.getD_cons_zero, List.getD_cons_succ, List.getD_nil, if_true, if_false, Bool.not_not, Bool.not_true, Bool.not_false, Bool.false_eq_true, reduceIte, Nat.reduceSub, Nat.reduceAdd, Nat.reduceEqDiff, x_isSign, h4, r6, hv, x_must0]
          exact ctx_flt r2 (by rw [r2.1]; exact hfl)
        | true =>
          rw [hv, Bool.true_and, decide_eq_false_iff_not] at hq
          have e : decide (nI ts.length < 2) = false := decide_eq_false (nI_nlt (a := ts.length) (b := 2) (by omega) (by omega))
          simp (disch := first | assumption | omega | exact hfl2 _) only [amth_run, run_nil, run_seq, run_skip, run_ret0, run_ret, run_set, run_inc, run_ex, run_if, run_putF, run_opF, run_opU, run_putS, run_opS, run_add, run_at, run_atB, run_sw, kS_ok, kS_no, kE_ok, kE_no, kI_t, kI_f, kI_no, kPF_ok, kOF_ok, kPS_ok, kOS_ok, kAD_ok, kAD_no, kT1_ok, kT2_ok, kB1_ok, kB2_ok, kSw_ok, fin_ok, fin_b, fin_0, fin_1, fin_v, fin_no, fin_none, d10, eq_self, decide_true, decide_false, ti_b, b2i_t, b2i_f, aK, aL, aF, aSz, aBin, aDiv, aB, aAt, aNd, aArgs, aCall, aIf, bCmp, bZ, bAnd, bOr, bNot, bTT, bIf, ab_ok, ab_no, ab_none, ab_ab, ab_ite, aok_ok, aok_none, og_ok, og_none, vbin_i, vb8_i, vput_i, vI_i, cmp_i, hold_eq, hold_ne, hold_lt, hold_ge, hold_gt, hold_le, b2i_0, ss_b, ss_ite, oAdd, oSub, oMul, Option.bind_some, A0of, va_up, List.length_nil, List.length_cons, List.getD_cons_zero, List.getD_cons_succ, List.getD_nil, if_true, if_false, Bool.not_not, Bool.not_true, Bool.not_false, Bool.false_eq_true, reduceIte, Nat.reduceSub, Nat.reduceAdd, Nat.reduceEqDiff, x_isSign, h4, r6, r8, hv, e, x_must0]
          exact ctx_flt r2 (by rw [r2.1]; exact hfl)
      | true =>
        rw [Bool.and_eq_true, decide_eq_true_eq] at hq
        obtain ⟨hq1, hq2⟩ := hq
        have hi : vI t.2.1 = some (patN t) := by
          unfold patV at hq1
          simp only [Bool.and_eq_true, decide_eq_true_eq] at hq1
          cases hv : vI t.2.1 with
          | none => exact absurd ⟨hq1.1.1, hv⟩ hz
          | some i => simp [patN, hv]
        match ts, hq2 with
        | [], _ =>
          have d0 : decide ((0 : Int32) < 2) = true := by decide
          have d1 : decide ((0 : Int32) = 1) = false := by decide
          have r8 : LV 4 = .int 0 := r8
          have r7 : LV 2 = tv t := r7
          simp (disch := first | assumption | omega | exact hfl2 _) only [amth_run, run_nil, run_seq, run_skip, run_ret0, run_ret, run_set, run_inc, run_ex, run_if, run_putF, run_opF, run_opU, run_putS, run_opS, run_add, run_at, run_atB, run_sw, kS_ok, kS_no, kE_ok, kE_no, kI_t, kI_f, kI_no, kPF_ok, kOF_ok, kPS_ok, kOS_ok, kAD_ok, kAD_no, kT1_ok, kT2_ok, kB1_ok, kB2_ok, kSw_ok, fin_ok, fin_b, fin_0, fin_1, fin_v, fin_no, fin_none, d10, eq_self, decide_true, decide_false, ti_b, b2i_t, b2i_f, aK, aL, aF, aSz, aBin, aDiv, aB, aAt, aNd, aArgs, aCall, aIf, bCmp, bZ, bAnd, bOr, bNot, bTT, bIf, ab_ok, ab_no, ab_none, ab_ab, ab_ite, aok_ok, aok_none, og_ok, og_none, vbin_i, vb8_i, vput_i, vI_i, cmp_i, hold_eq, hold_ne, hold_lt, hold_ge, hold_gt, hold_le, b2i_0, ss_b, ss_ite, oAdd, oSub, oMul, Option.bind_some, A0of, va_up, List.length_nil, List.length_cons, List.getD_cons_zero, List.getD_cons_succ, List.getD_nil, if_true, if_false, Bool.not_not, Bool.not_true, Bool.not_false, Bool.false_eq_true, reduceIte, Nat.reduceSub, Nat.reduceAdd, Nat.reduceEqDiff, x_isSign, h4, r5, r6, r7, r8, hq1, d0, d1, x_must1, nd1i hi, List.head?_nil]
          exact ctx_je r2 (x_layer hpg hpt n ps2 f j2 B (by omega) hP2 (by omega))
        | [y], _ =>
          have d0 : decide ((1 : Int32) < 2) = true := by decide
          have r8 : LV 4 = .int 1 := r8
          have r7 : LV 2 = tv (36, tv t, tv y, no, nI ps.1) := r7
          have n1 : ndF (fun i => i) 1 (tv (36, tv t, tv y, no, nI ps.1)) = some (tv t) := nd1 _ _ (show ¬ ((36 : Int32) = 11 ∨ (36 : Int32) = 32) by decide)
          have n2 : ndF (fun i => i) 2 (tv (36, tv t, tv y, no, nI ps.1)) = some (tv y) := rfl
          simp (disch := first | assumption | omega | exact hfl2 _) only [amth_run, run_nil, run_seq, run_skip, run_ret0, run_ret, run_set, run_inc, run_ex, run_if, run_putF, run_opF, run_opU, run_putS, run_opS, run_add, run_at, run_atB, run_sw, kS_ok, kS_no, kE_ok, kE_no, kI_t, kI_f, kI_no, kPF_ok, kOF_ok, kPS_ok, kOS_ok, kAD_ok, kAD_no, kT1_ok, kT2_ok, kB1_ok, kB2_ok, kSw_ok, fin_ok, fin_b, fin_0, fin_1, fin_v, fin_no, fin_none, d10, eq_self, decide_true, decide_false, ti_b, b2i_t, b2i_f, aK, aL, aF, aSz, aBin, aDiv, aB, aAt, aNd, aArgs, aCall, aIf, bCmp, bZ, bAnd, bOr, bNot, bTT, bIf, ab_ok, ab_no, ab_none, ab_ab, ab_ite, aok_ok, aok_none, og_ok, og_none, vbin_i, vb8_i, vput_i, vI_i, cmp_i, hold_eq, hold_ne, hold_lt, hold_ge, hold_gt, hold_le, b2i_0, ss_b, ss_ite, oAdd, oSub, oMul, Option.bind_some, A0of, va_up, List.length_nil, List.length_cons, List.getD_cons_zero, List.getD_cons_succ, List.getD_nil, if_true, if_false, Bool.not_not, Bool.not_true, Bool.not_false, Bool.false_eq_true, reduceIte, Nat.reduceSub, Nat.reduceAdd, Nat.reduceEqDiff, x_isSign, h4, r5, r6, r7, r8, hq1, d0, x_must1, n1, n2, nd1i hi, List.head?_cons]
          exact ctx_je r2 (x_layer (ty := some y) hpg hpt n ps2 f j2 B (by omega) hP2 (by simp at r3; omega))
theorem x_inner1 {pat : PA TR} {c : Nat} (hpt : CoX W tk c 30 26 [] pat) : CoX W tk (c + 1) 30 52 [.int 1] pat := by
  intro k ps f j B hk hP hB; have hP0 := hP; obtain ⟨ht, hps, ha, ho, hfr, hfl, hS⟩ := hP0; obtain ⟨n, rfl⟩ := suc1 (m := k) (by omega); have hf2 : 0 < (stX tk ps f j).fl := hfl; have ha2 : ps.1 ≤ tk.1.length := ha; have hA : ALM = 30000 := rfl
  simp only [eX_inner, zX_inner, amth_run, run_nil, run_seq, run_skip, run_ret0, run_ret, run_set, run_inc, run_ex, run_if, run_putF, run_opF, run_opU, run_putS, run_opS, run_add, run_at, run_atB, run_sw, kS_ok, kS_no, kE_ok, kE_no, kI_t, kI_f, kI_no, kPF_ok, kOF_ok, kPS_ok, kOS_ok, kAD_ok, kAD_no, kT1_ok, kT2_ok, kB1_ok, kB2_ok, kSw_ok, fin_ok, fin_b, fin_0, fin_1, fin_v, fin_no, fin_none, d10, eq_self, decide_true, decide_false, ti_b, b2i_t, b2i_f, aK, aL, aF, aSz, aBin, aDiv, aB, aAt, aNd, aArgs, aCall, aIf, bCmp, bZ, bAnd, bOr, bNot, bTT, bIf, ab_ok, ab_no, ab_none, ab_ab, ab_ite, aok_ok, aok_none, og_ok, og_none, vbin_i, vb8_i, vput_i, vI_i, cmp_i, hold_eq, hold_ne, hold_lt, hold_ge, hold_gt, hold_le, b2i_0, ss_b, ss_ite, oAdd, oSub, oMul, Option.bind_some, A0of, va_up, List.length_nil, List.length_cons, List.getD_cons_zero, List.getD_cons_succ, List.getD_nil, if_true, if_false, Bool.not_not, Bool.not_true, Bool.not_false, Bool.false_eq_true, reduceIte, Nat.reduceSub, Nat.reduceAdd, Nat.reduceEqDiff]
  exact hpt n ps f j B (by omega) (hP.at (Nat.le_refl _) ha (je.rf (W := W) j) (by omega)) hB
theorem x_patterns : ∀ n, CoX W tk (165 + 8 * n) 30 26 [] (pPt n tk) ∧ PGr tk (pPt n tk) := by
  intro n
  induction n with
  | zero => exact ⟨fun _ _ _ _ _ _ _ _ => trivial, fun _ _ _ _ h => by cases h⟩
  | succ n ih =>
    obtain ⟨h1, h2⟩ := x_types (tk := tk) 40
    refine ⟨?_, pgr_grT⟩
    have := x_pattern (c := 166 + 8 * n) ih.2 (fun k ps f j B hk => ih.1 k ps f j B (by omega)) (fun k ps f j B hk => h1 k ps f j B (by omega)) h2 (fun k ps f j B hk => x_inner1 ih.1 k ps f j B (by omega))
    exact fun k ps f j B hk => this k ps f j B (by omega)
end XPU
