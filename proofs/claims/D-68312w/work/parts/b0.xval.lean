/-! X: val -/
section XVA
variable {tk : TK} {ps ps' : PS} {f f1 f' : FX} {j j1 j' : AS} {m n k k' : Nat} {A A' : AS} {LV : AL}
theorem x_recs {α : Type} {em : α → V} {fo : FX} {j0 : AS} {B : Nat} {F : Bool → PA α} {K B0 C0 : KT} (hn : 3 ≤ n) (N : Nat) : ∀ (M : Nat) (ps : PS) (r : Bool) (LV : AL), M ≤ N → tkOK tk → ps.1 ≤ Tn tk → LV 4 = .int (b2i r) →
    (∀ r' a LV', ps.1 ≤ a → a ≤ Tn tk → LV' 4 = .int (b2i r') → (∀ k, k ≠ 4 → LV' k = LV k) → CTx false em tk fo j0 B (K LV' (stX tk (a, ps.2) f j)) (F r' (a, ps.2))) →
    CTx false em tk fo j0 B (rn (zWh (N + 1) (bZ .ne (aCall (aX n) 10 [(aK 26)])) (zSet 4 (aK 1)) zSkip LV (stX tk ps f j)) K B0 C0) (pb (pRecs tk M r) F ps) := by
  induction N with
  | zero =>
    intro M q r LV hM
    have : M = 0 := by omega
    subst this
    intros
    exact trivial
  | succ N ih =>
    intro M ps r LV hM ht ha h4 hK
    cases M with
    | zero => exact trivial
    | succ M =>
      have ha2 : ps.1 ≤ tk.1.length := ha
      rw [rn_wh]
      cases hc : sg tk ps.1 26 with
      | false =>
        rw [pb_val (v := r) (ps' := ps) (by simp only [pRecs, hc, A0of, va_up, List.length_nil, List.length_cons, List.getD_cons_zero, List.getD_cons_succ, List.getD_nil, if_true, if_false, Bool.not_not, Bool.not_true, Bool.not_false, Bool.false_eq_true, reduceIte, Nat.reduceSub, Nat.reduceAdd, Nat.reduceEqDiff])]
        simp (disch := first | assumption | omega | (simp only [pr0_1, pr1_1, pr2_1, pr0_10, pr1_10, pr2_10, pr0_11, pr1_11, pr2_11, pr0_12, pr1_12, pr2_12, pr0_13, pr1_13, pr2_13, pr0_14, pr1_14, pr2_14, pr0_15, pr1_15, pr2_15, pr0_16, pr1_16, pr2_16, pr0_17, pr1_17, pr2_17, pr0_18, pr1_18, pr2_18, pr0_19, pr1_19, pr2_19, pr0_20, pr1_20, pr2_20, pr0_30, pr1_30, pr2_30, pr0_31, pr1_31, pr2_31, pr0_32, pr1_32, pr2_32, pr0_33, pr1_33, pr2_33, pr0_34, pr1_34, pr2_34, pr0_35, pr1_35, pr2_35, pr0_36, pr1_36, pr2_36, pr0_37, pr1_37, pr2_37, pr0_50, pr1_50, pr2_50, pr0_51, pr1_51, pr2_51, pr0_52, pr1_52, pr2_52, pr0_53, pr1_53, pr2_53, pr0_54, pr1_54, pr2_54, pr0_70, pr1_70, pr2_70, pr0_71, pr1_71, pr2_71, pr0_72, pr1_72, pr2_72, pr0_73, pr1_73, pr2_73, pr0_74, pr1_74, pr2_74, pr0_75, pr1_75, pr2_75, pr0_76, pr1_76, pr2_76, pr0_77, pr1_77, pr2_77, pr0_78, pr1_78, pr2_78, pr0_79, pr1_79, pr2_79, pr0_80, pr1_80, pr2_80, pr0_81, pr1_81, pr2_81, pr0_82, pr1_82, pr2_82, pr0_83, pr1_83, pr2_83, pr0_84, pr1_84, pr2_84, okF_tv, okF_no, okF_n1, okF_i, okLi, okOv, ok33] <;> assumption) | decide | (simp only [mkN_nn, mkN_fl, sX_fl, sX_nn, List.length_append, List.length_cons, List.length_nil, List.length_map]; omega) | (dsimp only; omega)) only [amth_eq, rn_seq, rn_if, rn_set, rn_inc, rn_ex, rn_ret, rn_ret0, rn_skip, rn_putF, rn_opF, rn_opU, rn_putS, rn_opS, rn_at, rn_atB, rn_add, rn_swap, rn_sw, rn_brk, rn_cnt, fin_ok, fin_ab, fin_ite, fin_og, fin_b, fin_0, fin_1, fin_v, fin_no, fin_none, d10, eq_self, decide_true, decide_false, ti_b, b2i_t, b2i_f, aK, aL, aF, aSz, aBin, aDiv, aB, aAt, aNd, aArgs, aCall, aIf, bCmp, bZ, bAnd, bOr, bNot, bTT, bIf, ab_ok, ab_no, ab_none, ab_ab, ab_ite, aok_ok, aok_none, og_ok, og_none, vbin_i, vb8_i, vput_i, vI_i, cmp_i, hold_eq, hold_ne, hold_lt, hold_ge, hold_gt, hold_le, b2i_0, ss_b, ss_ite, oAdd, oSub, oMul, Option.bind_some, A0of, va_up, List.length_nil, List.length_cons, List.getD_cons_zero, List.getD_cons_succ, List.getD_nil, if_true, if_false, Bool.not_not, Bool.not_true, Bool.not_false, Bool.false_eq_true, reduceIte, Nat.reduceSub, Nat.reduceAdd, Nat.reduceEqDiff, x_takes, hc]
        exact hK r ps.1 LV (Nat.le_refl _) ha h4 (fun _ _ => rfl)
      | true =>
        have hlt : ps.1 < Tn tk := sg_lt hc
        rw [pb_at (p' := pRecs tk M true) (ps' := (ps.1 + 1, ps.2)) (by simp only [pRecs, hc, A0of, va_up, List.length_nil, List.length_cons, List.getD_cons_zero, List.getD_cons_succ, List.getD_nil, if_true, if_false, Bool.not_not, Bool.not_true, Bool.not_false, Bool.false_eq_true, reduceIte, Nat.reduceSub, Nat.reduceAdd, Nat.reduceEqDiff])]
        simp (disch := first | assumption | omega | (simp only [pr0_1, pr1_1, pr2_1, pr0_10, pr1_10, pr2_10, pr0_11, pr1_11, pr2_11, pr0_12, pr1_12, pr2_12, pr0_13, pr1_13, pr2_13, pr0_14, pr1_14, pr2_14, pr0_15, pr1_15, pr2_15, pr0_16, pr1_16, pr2_16, pr0_17, pr1_17, pr2_17, pr0_18, pr1_18, pr2_18, pr0_19, pr1_19, pr2_19, pr0_20, pr1_20, pr2_20, pr0_30, pr1_30, pr2_30, pr0_31, pr1_31, pr2_31, pr0_32, pr1_32, pr2_32, pr0_33, pr1_33, pr2_33, pr0_34, pr1_34, pr2_34, pr0_35, pr1_35, pr2_35, pr0_36, pr1_36, pr2_36, pr0_37, pr1_37, pr2_37, pr0_50, pr1_50, pr2_50, pr0_51, pr1_51, pr2_51, pr0_52, pr1_52, pr2_52, pr0_53, pr1_53, pr2_53, pr0_54, pr1_54, pr2_54, pr0_70, pr1_70, pr2_70, pr0_71, pr1_71, pr2_71, pr0_72, pr1_72, pr2_72, pr0_73, pr1_73, pr2_73, pr0_74, pr1_74, pr2_74, pr0_75, pr1_75, pr2_75, pr0_76, pr1_76, pr2_76, pr0_77, pr1_77, pr2_77, pr0_78, pr1_78, pr2_78, pr0_79, pr1_79, pr2_79, pr0_80, pr1_80, pr2_80, pr0_81, pr1_81, pr2_81, pr0_82, pr1_82, pr2_82, pr0_83, pr1_83, pr2_83, pr0_84, pr1_84, pr2_84, okF_tv, okF_no, okF_n1, okF_i, okLi, okOv, ok33] <;> assumption) | decide | (simp only [mkN_nn, mkN_fl, sX_fl, sX_nn, List.length_append, List.length_cons, List.length_nil, List.length_map]; omega) | (dsimp only; omega)) only [amth_eq, rn_seq, rn_if, rn_set, rn_inc, rn_ex, rn_ret, rn_ret0, rn_skip, rn_putF, rn_opF, rn_opU, rn_putS, rn_opS, rn_at, rn_atB, rn_add, rn_swap, rn_sw, rn_brk, rn_cnt, fin_ok, fin_ab, fin_ite, fin_og, fin_b, fin_0, fin_1, fin_v, fin_no, fin_none, d10, eq_self, decide_true, decide_false, ti_b, b2i_t, b2i_f, aK, aL, aF, aSz, aBin, aDiv, aB, aAt, aNd, aArgs, aCall, aIf, bCmp, bZ, bAnd, bOr, bNot, bTT, bIf, ab_ok, ab_no, ab_none, ab_ab, ab_ite, aok_ok, aok_none, og_ok, og_none, vbin_i, vb8_i, vput_i, vI_i, cmp_i, hold_eq, hold_ne, hold_lt, hold_ge, hold_gt, hold_le, b2i_0, ss_b, ss_ite, oAdd, oSub, oMul, Option.bind_some, A0of, va_up, List.length_nil, List.length_cons, List.getD_cons_zero, List.getD_cons_succ, List.getD_nil, if_true, if_false, Bool.not_not, Bool.not_true, Bool.not_false, Bool.false_eq_true, reduceIte, Nat.reduceSub, Nat.reduceAdd, Nat.reduceEqDiff, x_takes, hc]
        refine ih M (ps.1 + 1, ps.2) true _ (by omega) ht hlt rfl fun r' a LV' q1 q2 q3 q4 => ?_
        exact hK r' a LV' (by dsimp only at q1; omega) q2 q3 (fun k hk => (q4 k hk).trans (va_up_ne _ _ hk))
theorem x_vals {α : Type} {em : α → V} {fo : FX} {o : Nat} {base : List V} {g : (Nat × List V) × (Nat × List V)} {pat E : PA TR} {c : Nat} {w1 w2 w3 : V} (hpg : PGr tk pat) (hpt : CoX false tk c 30 26 [] pat) (hEg : PGr tk E) (hE : CoX false tk c 30 53 [.int 0] E) (hn : max c 5 ≤ n) (N : Nat) :
    ∀ (M : Nat) (r : Bool) (don : List TR) (ps : PS) (j j0 : AS) (LV : AL) (K B0 C0 : KT) (B1 B : Nat) (F : List TR → PA α), M ≤ N → PRX tk ps ((o, base ++ don.map tv), g) j (n + 1) → je false j0 j → LV 1 = w1 → LV 2 = w2 → LV 3 = w3 → LV 4 = .int (b2i r) → LV 5 = .int 1 → j.nn + 100 * (Tn tk - ps.1) ≤ B1 →
    (∀ ts ps' j' LV', PG tk ps ps' → 1 ≤ ts.length → je false j0 j' → j'.nn + 100 * (Tn tk - ps'.1) + 60 * ts.length ≤ B1 → fS ((o, base ++ (don ++ ts).map tv), g) + j'.nn + 8 * (n + 1) + 100 * (Tn tk - ps'.1) ≤ 29000 → LV' 1 = w1 → LV' 2 = w2 → LV' 3 = w3 → CTx false em tk fo j0 B (K LV' (stX tk ps' ((o, base ++ (don ++ ts).map tv), g) j')) (F ts ps')) →
    CTx false em tk fo j0 B (rn (zWh (N + 1) (bZ .ne (aL 5)) (zSeq (zWh LN (bZ .ne (aCall (aX n) 10 [(aK 26)])) (zSet 4 (aK 1)) zSkip) (zSeq (zSet 6 (aF 3)) (zSeq (zSet 7 (aCall (aX n) 26 [])) (zSeq (zEx (aCall (aX n) 24 [(aK 45)])) (zSeq (zSet 8 (aCall (aX n) 53 [(aK 0)])) (zSeq (zAdd 13 (aCall (aX n) 21 [(aK 71), (aL 7), (aL 8), (aL 4), (aL 6)])) (zSet 5 (aCall (aX n) 10 [(aK 2)])))))))) zSkip LV (stX tk ps ((o, base ++ don.map tv), g) j)) K B0 C0) (pb (pVals tk pat E M r) F ps) := by
  induction N with
  | zero =>
    intro M r don ps j j0 LV K B0 C0 B1 B F hM
    have : M = 0 := by omega
    subst this
    intros
    exact trivial
  | succ N ih =>
    intro M r don ps j j0 LV K B0 C0 B1 B F hM hP hj h1 h2 h3 h4 h5 hB hK
    cases M with
    | zero => exact trivial
    | succ M =>
      obtain ⟨ht, hps, ha, ho, hfr, hfl, hS⟩ := id hP
      have hA : ALM = 30000 := rfl
      have e5 : ∀ A, bZ .ne (aL 5) LV A = some (some true, A) := by
        intro A
        simp only [d10, eq_self, decide_true, decide_false, ti_b, b2i_t, b2i_f, aK, aL, aF, aSz, aBin, aDiv, aB, aAt, aNd, aArgs, aCall, aIf, bCmp, bZ, bAnd, bOr, bNot, bTT, bIf, ab_ok, ab_no, ab_none, ab_ab, ab_ite, aok_ok, aok_none, og_ok, og_none, vbin_i, vb8_i, vput_i, vI_i, cmp_i, hold_eq, hold_ne, hold_lt, hold_ge, hold_gt, hold_le, b2i_0, ss_b, ss_ite, oAdd, oSub, oMul, Option.bind_some, A0of, va_up, List.length_nil, List.length_cons, List.getD_cons_zero, List.getD_cons_succ, List.getD_nil, if_true, if_false, Bool.not_not, Bool.not_true, Bool.not_false, Bool.false_eq_true, reduceIte, Nat.reduceSub, Nat.reduceAdd, Nat.reduceEqDiff, h5]
      rw [rn_wh, e5, ab_ok, if_pos rfl, rn_seq]
      rw [show pVals tk pat E (M + 1) r = pb (pRecs tk LF r) fun r' ps => pb pat (fun p => pNeed tk 45 (pb E fun e ps' =>
      if sg tk ps'.1 2 = true then pb (pVals tk pat E M r') (fun l => pret ((71, tv p, tv e, .int (b2i r'), nI ps.1) :: l)) (ps'.1 + 1, ps'.2) else some (.inl ([(71, tv p, tv e, .int (b2i r'), nI ps.1)], ps')))) ps from rfl, pb_pb]
      refine x_recs (by omega) 99999 LF ps r LV (by decide) ht ha h4 fun r' a LV1 q1 q2 q3 q4 => ?_
      have l1 : LV1 1 = w1 := (q4 1 (by decide)).trans h1
      have l2 : LV1 2 = w2 := (q4 2 (by decide)).trans h2
      have l3 : LV1 3 = w3 := (q4 3 (by decide)).trans h3
      have hPa : PRX tk (a, ps.2) ((o, base ++ don.map tv), g) j (n + 1) := hP.at q1 q2 (je.rf (W := false) j) (by omega)
      have g0 : PGe tk ps (a, ps.2) := ⟨q1, q2, rfl, by dsimp only; omega, hps⟩
      show CTx false em tk fo j0 B _ (pb (pb pat (fun p => pNeed tk 45 (pb E fun e ps' =>
      if sg tk ps'.1 2 = true then pb (pVals tk pat E M r') (fun l => pret ((71, tv p, tv e, .int (b2i r'), nI a) :: l)) (ps'.1 + 1, ps'.2) else some (.inl ([(71, tv p, tv e, .int (b2i r'), nI a)], ps'))))) F (a, ps.2))
      rw [pb_pb]
      simp only [amth_eq, rn_seq, rn_if, rn_set, rn_inc, rn_ex, rn_ret, rn_ret0, rn_skip, rn_putF, rn_opF, rn_opU, rn_putS, rn_opS, rn_at, rn_atB, rn_add, rn_swap, rn_sw, rn_brk, rn_cnt, fin_ok, fin_ab, fin_ite, fin_og, fin_b, fin_0, fin_1, fin_v, fin_no, fin_none, d10, eq_self, decide_true, decide_false, ti_b, b2i_t, b2i_f, aK, aL, aF, aSz, aBin, aDiv, aB, aAt, aNd, aArgs, aCall, aIf, bCmp, bZ, bAnd, bOr, bNot, bTT, bIf, ab_ok, ab_no, ab_none, ab_ab, ab_ite, aok_ok, aok_none, og_ok, og_none, vbin_i, vb8_i, vput_i, vI_i, cmp_i, hold_eq, hold_ne, hold_lt, hold_ge, hold_gt, hold_le, b2i_0, ss_b, ss_ite, oAdd, oSub, oMul, Option.bind_some, A0of, va_up, List.length_nil, List.length_cons, List.getD_cons_zero, List.getD_cons_succ, List.getD_nil, if_true, if_false, Bool.not_not, Bool.not_true, Bool.not_false, Bool.false_eq_true, reduceIte, Nat.reduceSub, Nat.reduceAdd, Nat.reduceEqDiff, sX_f3, sX_f17, sX_f18, sX_f21, sX_R0, sX_R1, sX_R2, sX_R10, sX_R11, sX_R12, sX_R13, sX_R14, sX_R15, sX_o0, sX_o1, sX_o2, sX_o10, sX_o11, sX_o12, sX_o13, sX_o14, sX_o15, sX_nn, sX_fl]
      refine ctx_st hpt hpg (by omega) (by omega) hPa hj fun p ps1 j1 g1 hP1 hj1 hB1 => ?_
      dsimp only at hB1
      rw [pNeed_pb]
      refine ctx_need (by omega) hP1 hj1 fun hl1 => ?_
      rw [pb_pb]
      refine ctx_st hE hEg (by omega) (by omega) (hP1.one hl1) hj1 fun e ps2 j2 g2 hP2 hj2 hB2 => ?_
      dsimp only at hB2
      obtain ⟨_, hps2, ha2, _, _, hfl2, hS2⟩ := id hP2
      have hb2 : ps2.1 ≤ tk.1.length := ha2
      have hlen : o + (base ++ don.map tv).length < ALM := by simp only [fS] at hS; omega
      have psh : ∀ z : TR, base ++ don.map tv ++ [tv z] = base ++ (don ++ [z]).map tv := by intro z; simp
      simp (disch := first | assumption | omega | (simp only [pr0_1, pr1_1, pr2_1, pr0_10, pr1_10, pr2_10, pr0_11, pr1_11, pr2_11, pr0_12, pr1_12, pr2_12, pr0_13, pr1_13, pr2_13, pr0_14, pr1_14, pr2_14, pr0_15, pr1_15, pr2_15, pr0_16, pr1_16, pr2_16, pr0_17, pr1_17, pr2_17, pr0_18, pr1_18, pr2_18, pr0_19, pr1_19, pr2_19, pr0_20, pr1_20, pr2_20, pr0_30, pr1_30, pr2_30, pr0_31, pr1_31, pr2_31, pr0_32, pr1_32, pr2_32, pr0_33, pr1_33, pr2_33, pr0_34, pr1_34, pr2_34, pr0_35, pr1_35, pr2_35, pr0_36, pr1_36, pr2_36, pr0_37, pr1_37, pr2_37, pr0_50, pr1_50, pr2_50, pr0_51, pr1_51, pr2_51, pr0_52, pr1_52, pr2_52, pr0_53, pr1_53, pr2_53, pr0_54, pr1_54, pr2_54, pr0_70, pr1_70, pr2_70, pr0_71, pr1_71, pr2_71, pr0_72, pr1_72, pr2_72, pr0_73, pr1_73, pr2_73, pr0_74, pr1_74, pr2_74, pr0_75, pr1_75, pr2_75, pr0_76, pr1_76, pr2_76, pr0_77, pr1_77, pr2_77, pr0_78, pr1_78, pr2_78, pr0_79, pr1_79, pr2_79, pr0_80, pr1_80, pr2_80, pr0_81, pr1_81, pr2_81, pr0_82, pr1_82, pr2_82, pr0_83, pr1_83, pr2_83, pr0_84, pr1_84, pr2_84, okF_tv, okF_no, okF_n1, okF_i, okLi, okOv, ok33] <;> assumption) | decide | (simp only [mkN_nn, mkN_fl, sX_fl, sX_nn, List.length_append, List.length_cons, List.length_nil, List.length_map]; omega) | (dsimp only; omega)) only [amth_eq, rn_seq, rn_if, rn_set, rn_inc, rn_ex, rn_ret, rn_ret0, rn_skip, rn_putF, rn_opF, rn_opU, rn_putS, rn_opS, rn_at, rn_atB, rn_add, rn_swap, rn_sw, rn_brk, rn_cnt, fin_ok, fin_ab, fin_ite, fin_og, fin_b, fin_0, fin_1, fin_v, fin_no, fin_none, d10, eq_self, decide_true, decide_false, ti_b, b2i_t, b2i_f, aK, aL, aF, aSz, aBin, aDiv, aB, aAt, aNd, aArgs, aCall, aIf, bCmp, bZ, bAnd, bOr, bNot, bTT, bIf, ab_ok, ab_no, ab_none, ab_ab, ab_ite, aok_ok, aok_none, og_ok, og_none, vbin_i, vb8_i, vput_i, vI_i, cmp_i, hold_eq, hold_ne, hold_lt, hold_ge, hold_gt, hold_le, b2i_0, ss_b, ss_ite, oAdd, oSub, oMul, Option.bind_some, A0of, va_up, List.length_nil, List.length_cons, List.getD_cons_zero, List.getD_cons_succ, List.getD_nil, if_true, if_false, Bool.not_not, Bool.not_true, Bool.not_false, Bool.false_eq_true, reduceIte, Nat.reduceSub, Nat.reduceAdd, Nat.reduceEqDiff, x_make, xa13, x_takes, psh, q3]
      generalize hz : ((71, tv p, tv e, .int (b2i r'), nI a) : TR) = z
      have hl : fS ((o, base ++ (don ++ [z]).map tv), g) = fS ((o, base ++ don.map tv), g) + 1 := by simp [fS]; omega
      have gg : PG tk ps ps2 := PG.trans (PGe.trans (PGe.trans g0 g1.e) (PG.one g1.2.2.2.2 hl1).e) g2
      have a1 := g0.1
      have a2 := g1.1
      have a3 := g2.1
      dsimp only at a1 a2 a3
      cases hc : sg tk ps2.1 2 with
      | true =>
        have hlt : ps2.1 < Tn tk := sg_lt hc
        rw [pb_at (p' := pb (pVals tk pat E M r') (fun l => pret (z :: l))) (ps' := (ps2.1 + 1, ps2.2)) (by simp only [hc, A0of, va_up, List.length_nil, List.length_cons, List.getD_cons_zero, List.getD_cons_succ, List.getD_nil, if_true, if_false, Bool.not_not, Bool.not_true, Bool.not_false, Bool.false_eq_true, reduceIte, Nat.reduceSub, Nat.reduceAdd, Nat.reduceEqDiff]), pb_pb]
        simp only [A0of, va_up, List.length_nil, List.length_cons, List.getD_cons_zero, List.getD_cons_succ, List.getD_nil, if_true, if_false, Bool.not_not, Bool.not_true, Bool.not_false, Bool.false_eq_true, reduceIte, Nat.reduceSub, Nat.reduceAdd, Nat.reduceEqDiff]
        refine ih M r' (don ++ [z]) (ps2.1 + 1, ps2.2) (mkN j2 1) j0 _ K _ _ (B1 - 60) B _ (by omega) (hP.nx (PG.trans gg.e (PG.one gg.2.2.2.2 hlt)) ((hj.l hj2).mk _) (by rw [hl, mkN_nn]; dsimp only; omega)) (hj2.mk _) ?_ ?_ ?_ ?_ ?_ (by rw [mkN_nn]; dsimp only; omega) fun ts ps'' j'' LV'' r1 r2 r3 r4 r5 r6 r7 r8 => ?_
        · simpa [va_up] using l1
        · simpa [va_up] using l2
        · simpa [va_up] using l3
        · simpa [va_up] using q3
        · rfl
        · have := hK (z :: ts) ps'' j'' LV'' (PG.trans (PGe.trans gg.e (PG.one gg.2.2.2.2 hlt).e) r1) (by simp) r3 (by simp; omega) (by simpa using r5) r6 r7 r8
          simpa [pret_pb] using this
      | false =>
        rw [pb_val (v := [z]) (ps' := ps2) (by simp only [hc, A0of, va_up, List.length_nil, List.length_cons, List.getD_cons_zero, List.getD_cons_succ, List.getD_nil, if_true, if_false, Bool.not_not, Bool.not_true, Bool.not_false, Bool.false_eq_true, reduceIte, Nat.reduceSub, Nat.reduceAdd, Nat.reduceEqDiff]), rn_wh]
        simp only [d10, eq_self, decide_true, decide_false, ti_b, b2i_t, b2i_f, aK, aL, aF, aSz, aBin, aDiv, aB, aAt, aNd, aArgs, aCall, aIf, bCmp, bZ, bAnd, bOr, bNot, bTT, bIf, ab_ok, ab_no, ab_none, ab_ab, ab_ite, aok_ok, aok_none, og_ok, og_none, vbin_i, vb8_i, vput_i, vI_i, cmp_i, hold_eq, hold_ne, hold_lt, hold_ge, hold_gt, hold_le, b2i_0, ss_b, ss_ite, oAdd, oSub, oMul, Option.bind_some, A0of, va_up, List.length_nil, List.length_cons, List.getD_cons_zero, List.getD_cons_succ, List.getD_nil, if_true, if_false, Bool.not_not, Bool.not_true, Bool.not_false, Bool.false_eq_true, reduceIte, Nat.reduceSub, Nat.reduceAdd, Nat.reduceEqDiff]
        have := hK [z] ps2 (mkN j2 1) (va_up (va_up (va_up (va_up LV1 6 (.int (nI a))) 7 (tv p)) 8 (tv e)) 5 (.int 0)) gg (by simp) (hj2.mk _) (by rw [mkN_nn]; simp; omega) (by rw [hl, mkN_nn]; omega) (by simpa [va_up] using l1) (by simpa [va_up] using l2) (by simpa [va_up] using l3)
        exact this
theorem x_valDec {pat E : PA TR} {c b : Nat} (hpg : PGr tk pat) (hpt : CoX false tk c 30 26 [] pat) (hEg : PGr tk E) (hE : CoX false tk c 30 53 [.int 0] E) : CoX false tk (max c 5 + 1) 50 18 [.int (nI b)] (pValD tk pat E b) := by
  intro k ps f j B hk hP hB; have hP0 := hP; obtain ⟨ht, hps, ha, ho, hfr, hfl, hS⟩ := hP0; obtain ⟨n, rfl⟩ := suc1 (m := k) (by omega); have hf2 : 0 < (stX tk ps f j).fl := hfl; have ha2 : ps.1 ≤ tk.1.length := ha; have hA : ALM = 30000 := rfl
  obtain ⟨⟨o, base⟩, g⟩ := f
  unfold pValD
  simp only [eX_valDec, zX_valDec, amth_run, run_seq, run_set, fin_ok, List.length_cons, List.length_nil, Nat.zero_add, if_true]
  rw [aCall_1, aK_e, ab_ok, kS_ab]
  refine ctx_ste (x_typeVariables (q := true)) pgh_grD (by omega) hP (je.rf (W := false) j) fun vs ps1 j1 g1 hP1 hj1 hB1 => ?_
  simp only [run_seq, run_set, aSz, kS_ok, sX_f3, sX_f17, sX_f18, sX_f21, sX_R0, sX_R1, sX_R2, sX_R10, sX_R11, sX_R12, sX_R13, sX_R14, sX_R15, sX_o0, sX_o1, sX_o2, sX_o10, sX_o11, sX_o12, sX_o13, sX_o14, sX_o15, sX_nn, sX_fl]
  rw [aK_e, kS_ok, run_seq, run_set, aK_e, kS_ok, run_seq, run_rn]
  have hP' : PRX tk ps1 ((o, base ++ ([] : List TR).map tv), g) j1 (n + 1) := by simpa using hP1
  have := x_vals (em := tv) (fo := ((o, base), g)) (n := n) (o := o) (base := base) (g := g) (w1 := .int (nI b)) (w2 := tLi vs) (w3 := .int (nI (o + base.length))) hpg hpt hEg hE (by omega) 99999 LF false [] ps1 j1 j (va_up (va_up (va_up (va_up (A0of true [.int (nI b)]) 2 (tLi vs)) 3 (.int (nI (o + base.length)))) 4 (.int 0)) 5 (.int 1)) (run [zRet (aCall (aX n) 21 [(aK 70), (aL 2), (aCall (aX n) 25 [(aL 3)]), (aK (-1)), (aL 1)])] nk) nk nk (j1.nn + 100 * (Tn tk - ps1.1)) B (fun l => pret (70, tLi vs, tLi l, no, nI b)) (by decide) hP' hj1 rfl rfl rfl rfl rfl (Nat.le_refl _) fun ts ps' j' LV' r1 r2 r3 r4 r5 r6 r7 r8 => ?_
  · simpa using this
  · rw [List.nil_append, fS_push, List.length_map] at r5
    have hA13 : o + base.length + 1 < ALM := by simp only [fS] at r5; omega
    have el := x_list (tk := tk) (ps := ps') (j := j') (m := n) (by omega) (o := o) (base := base) (items := ts) (g := g) (by omega) (by simp [fS] at r5 ⊢; omega) (by omega)
    have okl := okLi vs
    have okl2 := okLi ts
    simp (disch := first | assumption | omega | (simp only [pr0_1, pr1_1, pr2_1, pr0_10, pr1_10, pr2_10, pr0_11, pr1_11, pr2_11, pr0_12, pr1_12, pr2_12, pr0_13, pr1_13, pr2_13, pr0_14, pr1_14, pr2_14, pr0_15, pr1_15, pr2_15, pr0_16, pr1_16, pr2_16, pr0_17, pr1_17, pr2_17, pr0_18, pr1_18, pr2_18, pr0_19, pr1_19, pr2_19, pr0_20, pr1_20, pr2_20, pr0_30, pr1_30, pr2_30, pr0_31, pr1_31, pr2_31, pr0_32, pr1_32, pr2_32, pr0_33, pr1_33, pr2_33, pr0_34, pr1_34, pr2_34, pr0_35, pr1_35, pr2_35, pr0_36, pr1_36, pr2_36, pr0_37, pr1_37, pr2_37, pr0_50, pr1_50, pr2_50, pr0_51, pr1_51, pr2_51, pr0_52, pr1_52, pr2_52, pr0_53, pr1_53, pr2_53, pr0_54, pr1_54, pr2_54, pr0_70, pr1_70, pr2_70, pr0_71, pr1_71, pr2_71, pr0_72, pr1_72, pr2_72, pr0_73, pr1_73, pr2_73, pr0_74, pr1_74, pr2_74, pr0_75, pr1_75, pr2_75, pr0_76, pr1_76, pr2_76, pr0_77, pr1_77, pr2_77, pr0_78, pr1_78, pr2_78, pr0_79, pr1_79, pr2_79, pr0_80, pr1_80, pr2_80, pr0_81, pr1_81, pr2_81, pr0_82, pr1_82, pr2_82, pr0_83, pr1_83, pr2_83, pr0_84, pr1_84, pr2_84, okF_tv, okF_no, okF_n1, okF_i, okLi, okOv, ok33] <;> assumption) | decide | (simp only [mkN_nn, mkN_fl, sX_fl, sX_nn, List.length_append, List.length_cons, List.length_nil, List.length_map]; omega) | (dsimp only; omega)) only [amth_run, run_nil, run_seq, run_skip, run_ret0, run_ret, run_set, run_inc, run_ex, run_if, run_putF, run_opF, run_opU, run_putS, run_opS, run_add, run_at, run_atB, run_sw, kS_ok, kS_no, kE_ok, kE_no, kI_t, kI_f, kI_no, kPF_ok, kOF_ok, kPS_ok, kOS_ok, kAD_ok, kAD_no, kT1_ok, kT2_ok, kB1_ok, kB2_ok, kSw_ok, fin_ok, fin_b, fin_0, fin_1, fin_v, fin_no, fin_none, d10, eq_self, decide_true, decide_false, ti_b, b2i_t, b2i_f, aK, aL, aF, aSz, aBin, aDiv, aB, aAt, aNd, aArgs, aCall, aIf, bCmp, bZ, bAnd, bOr, bNot, bTT, bIf, ab_ok, ab_no, ab_none, ab_ab, ab_ite, aok_ok, aok_none, og_ok, og_none, vbin_i, vb8_i, vput_i, vI_i, cmp_i, hold_eq, hold_ne, hold_lt, hold_ge, hold_gt, hold_le, b2i_0, ss_b, ss_ite, oAdd, oSub, oMul, Option.bind_some, A0of, va_up, List.length_nil, List.length_cons, List.getD_cons_zero, List.getD_cons_succ, List.getD_nil, if_true, if_false, Bool.not_not, Bool.not_true, Bool.not_false, Bool.false_eq_true, reduceIte, Nat.reduceSub, Nat.reduceAdd, Nat.reduceEqDiff, r6, r7, r8, List.nil_append, el, x_make]
    exact ctx_ret (v := (70, tLi vs, tLi ts, no, nI b)) ((r3.mk _).mk _) (by simp only [mkN_nn]; omega)
theorem x_local {D : PA TR} {c b : Nat} (hDg : PGh tk D) (hD : CoD tv tk c 78 [] D) (k : Nat) (ps : PS) (f : FX) (j : AS) (B : Nat) (hk : max c 5 + 2 ≤ k) (hP : PRX tk ps f j k) (ho1 : 1 ≤ ps.2.1) (hR : fS f + j.nn + 8 * k + 100 * (Tn tk - ps.1) + 50 ≤ 29000) (hB : j.nn + 100 * (Tn tk - ps.1) ≤ B + 20) :
    CTx false tv tk f j B (aX k 100 [.int (nI b)] (stX tk ps f j)) (pLoc tk D b ps) := by
  obtain ⟨ht, hps, ha, ho, hfr, hfl, hS⟩ := id hP
  obtain ⟨n, rfl⟩ := suc1 (m := k) (by omega)
  have hA : ALM = 30000 := rfl
  unfold pLoc
  simp only [eX_local, zX_local, amth_run, run_seq, run_set, fin_ok, aSz, kS_ok, aCall_nil, A0of, va_up, List.length_nil, List.length_cons, List.getD_cons_zero, List.getD_cons_succ, List.getD_nil, if_true, if_false, Bool.not_not, Bool.not_true, Bool.not_false, Bool.false_eq_true, reduceIte, Nat.reduceSub, Nat.reduceAdd, Nat.reduceEqDiff, sX_f3, sX_f17, sX_f18, sX_f21, sX_R0, sX_R1, sX_R2, sX_R10, sX_R11, sX_R12, sX_R13, sX_R14, sX_R15, sX_o0, sX_o1, sX_o2, sX_o10, sX_o11, sX_o12, sX_o13, sX_o14, sX_o15, sX_nn, sX_fl]
  rw [kS_ab]
  refine ctx_std hD hDg (by omega) hP (by omega) (je.rf (W := false) j) fun d ps1 j1 g1 hP1 hj1 hB1 => ?_
  simp only [run_seq, run_ex, aCall, aArgs, aK, ab_ok]
  rw [kE_ab]
  refine ctx_need (by omega) hP1 hj1 fun hl1 => ?_
  simp only [run_seq, run_set, aSz, kS_ok, ab_ok, sX_f3, sX_f17, sX_f18, sX_f21, sX_R0, sX_R1, sX_R2, sX_R10, sX_R11, sX_R12, sX_R13, sX_R14, sX_R15, sX_o0, sX_o1, sX_o2, sX_o10, sX_o11, sX_o12, sX_o13, sX_o14, sX_o15, sX_nn, sX_fl]
  rw [kS_ab]
  refine ctx_std hD hDg (by omega) (hP1.one hl1) (by have := hP1.2.2.2.2.2.2; dsimp only; omega) hj1 fun e ps2 j2 g2 hP2 hj2 hB2 => ?_
  dsimp only at hB2
  simp only [run_seq, run_ex, ab_ok]
  rw [kE_ab]
  refine ctx_need (by omega) hP2 hj2 fun hl2 => ?_
  have hfr1 := hP1.2.2.2.2.1
  obtain ⟨_, hps2, ha2, _, hfr2, hfl2, hS2⟩ := id hP2
  have o1 := g1.2.2.1
  have o2 := g2.2.2.1
  dsimp only at o2
  have e17 : nI ps2.2.1 - 1 = nI (ps2.2.1 - 1) := nI_sub1 (by omega)
  unfold pLeave
  dsimp only
  by_cases h4 : ps2.2.2.2.2.1.length ≤ 400
  · rw [if_pos h4]
    have hfg := x_forget (tk := tk) (ps := (ps2.1 + 1, ps2.2.1 - 1, ps2.2.2)) (f := f) (j := j2) (m := n) (mark := ps.2.2.2.2.1.length) (middle := ps1.2.2.2.2.1.length) (by omega) hps2 h4 (by omega) (by omega) (by simp only [fS] at hS2; omega)
    have hmk := x_make (tk := tk) (ps := psFx (ps2.1 + 1, ps2.2.1 - 1, ps2.2.2) (fxFg ps.2.2.2.2.1.length ps1.2.2.2.2.1.length ps2.2.2.2)) (f := f) (j := j2) (m := n) (k := 82) (p := nI b) (a := tv d) (b := tv e) (c := no) (by omega) (by omega) (by decide) rfl rfl rfl
    simp only [amth_run, run_nil, run_seq, run_skip, run_ret0, run_ret, run_set, run_inc, run_ex, run_if, run_putF, run_opF, run_opU, run_putS, run_opS, run_add, run_at, run_atB, run_sw, kS_ok, kS_no, kE_ok, kE_no, kI_t, kI_f, kI_no, kPF_ok, kOF_ok, kPS_ok, kOS_ok, kAD_ok, kAD_no, kT1_ok, kT2_ok, kB1_ok, kB2_ok, kSw_ok, fin_ok, fin_b, fin_0, fin_1, fin_v, fin_no, fin_none, d10, eq_self, decide_true, decide_false, ti_b, b2i_t, b2i_f, aK, aL, aF, aSz, aBin, aDiv, aB, aAt, aNd, aArgs, aCall, aIf, bCmp, bZ, bAnd, bOr, bNot, bTT, bIf, ab_ok, ab_no, ab_none, ab_ab, ab_ite, aok_ok, aok_none, og_ok, og_none, vbin_i, vb8_i, vput_i, vI_i, cmp_i, hold_eq, hold_ne, hold_lt, hold_ge, hold_gt, hold_le, b2i_0, ss_b, ss_ite, oAdd, oSub, oMul, Option.bind_some, A0of, va_up, List.length_nil, List.length_cons, List.getD_cons_zero, List.getD_cons_succ, List.getD_nil, if_true, if_false, Bool.not_not, Bool.not_true, Bool.not_false, Bool.false_eq_true, reduceIte, Nat.reduceSub, Nat.reduceAdd, Nat.reduceEqDiff, sX_f3, sX_f17, sX_f18, sX_f21, sX_R0, sX_R1, sX_R2, sX_R10, sX_R11, sX_R12, sX_R13, sX_R14, sX_R15, sX_o0, sX_o1, sX_o2, sX_o10, sX_o11, sX_o12, sX_o13, sX_o14, sX_o15, sX_nn, sX_fl, sX_p3, sX_p17, sX_p18, sX_p21, sX_p13, sX_p14, sX_p15, sX_p10, sX_p11, sX_p12, nI_1, nI_pred, e17, ints_len, Nat.zero_add, hfg, hmk]
    refine ctx_ret (v := (82, tv d, tv e, no, nI b)) (hj2.mk _) ?_
    rw [mkN_nn]
    show _ + 100 * (Tn tk - (ps2.1 + 1)) ≤ B
    omega
  · rw [if_neg h4]
    exact trivial
end XVA
