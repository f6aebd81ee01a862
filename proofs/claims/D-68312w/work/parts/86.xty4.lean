/-! X: arrows; types by fuel -/
section XT4
variable {tk : TK} {ps ps' : PS} {f f' : FX} {j j' : AS} {m n k k' : Nat} {A : AS} {W : Bool}
def avs (l : List (TR × Nat)) : List V := l.flatMap fun q => [tv q.1, .int (nI q.2)]
theorem avs_len (l : List (TR × Nat)) : (avs l).length = 2 * l.length := by
  induction l with
  | nil => rfl
  | cons a l ih => simp [avs] at ih ⊢; omega
theorem avs_app (a b : List (TR × Nat)) : avs (a ++ b) = avs a ++ avs b := by simp [avs]
theorem tArr_last (l : List (TR × Nat)) (t : TR) (b : Nat) : tArr (l ++ [(t, b)]) = l.foldr (fun q acc => (54, tv q.1, tv acc, no, nI q.2)) t := by
  induction l with
  | nil => rfl
  | cons q l ih =>
    rw [List.foldr_cons, ← ih]
    cases l with
    | nil => rfl
    | cons _ _ => rfl
theorem x_arrs_loop {α : Type} {em : α → V} {fo : FX} {o : Nat} {base : List V} {g : (Nat × List V) × (Nat × List V)} {ty : PA TR} (hn : 3 ≤ n)
    (hv : ∀ ps f j B, PRX tk ps f j n → j.nn + 100 * (Tn tk - ps.1) ≤ B + 35 → CTx W tv tk f j B (aX n 39 [] (stX tk ps f j)) (pProd tk ty ps)) (N : Nat) :
    ∀ (M : Nat) (don : List (TR × Nat)) (ps : PS) (j j0 : AS) (LV : AL) (K B0 C0 : KT) (B1 B : Nat) (F : List (TR × Nat) → PA α), M ≤ N → PRX tk ps ((o, base ++ avs don), g) j (n + 1) → je W j0 j → j.nn + 100 * (Tn tk - ps.1) ≤ B1 → LV 2 = .int 1 →
    (∀ l a j' LV', l ≠ [] → ps.1 + l.length ≤ a → a ≤ Tn tk → je W j0 j' → j'.nn + 100 * (Tn tk - a) + 33 * l.length ≤ B1 → fS ((o, base ++ avs (don ++ l)), g) + j'.nn + 8 * (n + 1) + 100 * (Tn tk - a) ≤ 29000 → LV' 1 = LV 1 → CTx W em tk fo j0 B (K LV' (stX tk (a, ps.2) ((o, base ++ avs (don ++ l)), g) j')) (F l (a, ps.2))) →
    CTx W em tk fo j0 B (rn (zWh (N + 1) (bZ .ne (aL 2)) (zSeq (zSet 3 (aF 3)) (zSeq (zAdd 13 (aCall (aX n) 39 [])) (zSeq (zAdd 13 (aL 3)) (zSet 2 (aCall (aX n) 10 [(aK 47)]))))) zSkip LV (stX tk ps ((o, base ++ avs don), g) j)) K B0 C0) (pb (pArrs tk ty M) F ps) := by
  induction N with
  | zero =>
    intro M don ps j j0 LV K B0 C0 B1 B F hM
    have : M = 0 := by omega
    subst this
    intros
    exact trivial
  | succ N ih =>
    intro M don ps j j0 LV K B0 C0 B1 B F hM hP hj hB h2 hK
    cases M with
    | zero => exact trivial
    | succ M =>
      obtain ⟨ht, hps, ha, ho, hfr, hfl, hS⟩ := id hP
      have ha2 : ps.1 ≤ tk.1.length := ha
      have hA : ALM = 30000 := rfl
      have hlen : o + (base ++ avs don).length + 2 < ALM := by
        simp only [fS] at hS
        omega
      rw [rn_wh]
      simp only [amth_eq, rn_seq, rn_if, rn_set, rn_inc, rn_ex, rn_ret, rn_ret0, rn_skip, rn_putF, rn_opF, rn_opU, rn_putS, rn_opS, rn_at, rn_atB, rn_add, rn_swap, rn_sw, rn_brk, rn_cnt, fin_ok, fin_ab, fin_ite, fin_og, fin_b, fin_0, fin_1, fin_v, fin_no, fin_none, d10, eq_self, decide_true, decide_false, ti_b, b2i_t, b2i_f, aK, aL, aF, aSz, aBin, aDiv, aB, aAt, aNd, aArgs, aCall, aIf, bCmp, bZ, bAnd, bOr, bNot, bTT, bIf, ab_ok, ab_no, ab_none, ab_ab, ab_ite, aok_ok, aok_none, og_ok, og_none, vbin_i, vb8_i, vput_i, vI_i, cmp_i, hold_eq, hold_ne, hold_lt, hold_ge, hold_gt, hold_le, b2i_0, ss_b, ss_ite, oAdd, oSub, oMul, Option.bind_some, A0of, va_up, List.length_nil, List.length_cons, List.getD_cons_zero, List.getD_cons_succ, List.getD_nil, if_true, if_false, Bool.not_not, Bool.not_true, Bool.not_false, Bool.false_eq_true, reduceIte, Nat.reduceSub, Nat.reduceAdd, Nat.reduceEqDiff, sX_f3, sX_f17, sX_f18, sX_f21, sX_R0, sX_R1, sX_R2, sX_R10, sX_R11, sX_R12, sX_R13, sX_R14, sX_R15, sX_o0, sX_o1, sX_o2, sX_o10, sX_o11, sX_o12, sX_o13, sX_o14, sX_o15, sX_nn, sX_fl, sX_p3, sX_p17, sX_p18, sX_p21, sX_p13, sX_p14, sX_p15, sX_p10, sX_p11, sX_p12, nI_1, nI_pred, h2]
      have e : pb (pArrs tk ty (M + 1)) F ps = pb (pProd tk ty) (fun t ps' => pb (fun ps' => if sg tk ps'.1 47 = true then pb (pArrs tk ty M) (fun l => pret ((t, ps.1) :: l)) (ps'.1 + 1, ps'.2) else some (.inl ([(t, ps.1)], ps'))) F ps') ps := by
        rw [pb_at (p := pArrs tk ty (M + 1)) (p' := pb (pProd tk ty) fun t ps' => if sg tk ps'.1 47 = true then pb (pArrs tk ty M) (fun l => pret ((t, ps.1) :: l)) (ps'.1 + 1, ps'.2) else some (.inl ([(t, ps.1)], ps'))) (ps' := ps) rfl, pb_pb]
      rw [e]
      refine ctx_bindT (B1 := j.nn + 100 * (Tn tk - ps.1) - 35) hj (hv ps _ j _ (hP.at (Nat.le_refl _) ha (je.rf (W := W) j) (by omega)) (by omega)) fun v a j' g1 g2 hj' hB' => ?_
      have hjj : je W j j' := hj.l hj'
      have ha4 : a ≤ tk.1.length := g2
      have el : base ++ avs don ++ [tv v] ++ [Term.int (nI ps.1)] = base ++ avs (don ++ [(v, ps.1)]) := by simp [avs]
      have hlen1 : o + (base ++ avs don).length < ALM := by omega
      have hlen2 : o + (base ++ avs don ++ [tv v]).length < ALM := by simp at hlen ⊢; omega
      simp (disch := first | assumption | omega | (simp only [pr0_1, pr1_1, pr2_1, pr0_10, pr1_10, pr2_10, pr0_11, pr1_11, pr2_11, pr0_12, pr1_12, pr2_12, pr0_13, pr1_13, pr2_13, pr0_14, pr1_14, pr2_14, pr0_15, pr1_15, pr2_15, pr0_16, pr1_16, pr2_16, pr0_17, pr1_17, pr2_17, pr0_18, pr1_18, pr2_18, pr0_19, pr1_19, pr2_19, pr0_20, pr1_20, pr2_20, pr0_30, pr1_30, pr2_30, pr0_31, pr1_31, pr2_31, pr0_32, pr1_32, pr2_32, pr0_33, pr1_33, pr2_33, pr0_34, pr1_34, pr2_34, pr0_35, pr1_35, pr2_35, pr0_36, pr1_36, pr2_36, pr0_37, pr1_37, pr2_37, pr0_50, pr1_50, pr2_50, pr0_51, pr1_51, pr2_51, pr0_52, pr1_52, pr2_52, pr0_53, pr1_53, pr2_53, pr0_54, pr1_54, pr2_54, pr0_70, pr1_70, pr2_70, pr0_71, pr1_71, pr2_71, pr0_72, pr1_72, pr2_72, pr0_73, pr1_73, pr2_73, pr0_74, pr1_74, pr2_74, pr0_75, pr1_75, pr2_75, pr0_76, pr1_76, pr2_76, pr0_77, pr1_77, pr2_77, pr0_78, pr1_78, pr2_78, pr0_79, pr1_79, pr2_79, pr0_80, pr1_80, pr2_80, pr0_81, pr1_81, pr2_81, pr0_82, pr1_82, pr2_82, pr0_83, pr1_83, pr2_83, pr0_84, pr1_84, pr2_84, okF_tv, okF_no, okF_n1, okF_i, okLi, okOv, ok33] <;> assumption) | decide | (simp only [mkN_nn, mkN_fl, sX_fl, sX_nn, List.length_append, List.length_cons, List.length_nil, List.length_map]; omega) | (dsimp only; omega)) only [amth_eq, rn_seq, rn_if, rn_set, rn_inc, rn_ex, rn_ret, rn_ret0, rn_skip, rn_putF, rn_opF, rn_opU, rn_putS, rn_opS, rn_at, rn_atB, rn_add, rn_swap, rn_sw, rn_brk, rn_cnt, fin_ok, fin_ab, fin_ite, fin_og, fin_b, fin_0, fin_1, fin_v, fin_no, fin_none, d10, eq_self, decide_true, decide_false, ti_b, b2i_t, b2i_f, aK, aL, aF, aSz, aBin, aDiv, aB, aAt, aNd, aArgs, aCall, aIf, bCmp, bZ, bAnd, bOr, bNot, bTT, bIf, ab_ok, ab_no, ab_none, ab_ab, ab_ite, aok_ok, aok_none, og_ok, og_none, vbin_i, vb8_i, vput_i, vI_i, cmp_i, hold_eq, hold_ne, hold_lt, hold_ge, hold_gt, hold_le, b2i_0, ss_b, ss_ite, oAdd, oSub, oMul, Option.bind_some, A0of, va_up, List.length_nil, List.length_cons, List.getD_cons_zero, List.getD_cons_succ, List.getD_nil, if_true, if_false, Bool.not_not, Bool.not_true, Bool.not_false, Bool.false_eq_true, reduceIte, Nat.reduceSub, Nat.reduceAdd, Nat.reduceEqDiff, xa13, el, x_takes]
      have hS' : fS ((o, base ++ avs (don ++ [(v, ps.1)])), g) + j'.nn + 8 * (n + 1) + 100 * (Tn tk - a) ≤ 29000 := by
        rw [avs_app, ← List.append_assoc, fS_push, avs_len]
        simp only [List.length_cons, List.length_nil]
        omega
      cases hc : sg tk a 47 with
      | true =>
        have hlt : a < Tn tk := sg_lt hc
        have e2 : pb (fun ps' => if sg tk ps'.1 47 = true then pb (pArrs tk ty M) (fun l => pret ((v, ps.1) :: l)) (ps'.1 + 1, ps'.2) else some (.inl ([(v, ps.1)], ps'))) F (a, ps.2) = pb (pArrs tk ty M) (fun l => F ((v, ps.1) :: l)) (a + 1, ps.2) := by
          rw [pb_at (p' := pb (pArrs tk ty M) (fun l => pret ((v, ps.1) :: l))) (ps' := (a + 1, ps.2)) (by simp only [hc, A0of, va_up, List.length_nil, List.length_cons, List.getD_cons_zero, List.getD_cons_succ, List.getD_nil, if_true, if_false, Bool.not_not, Bool.not_true, Bool.not_false, Bool.false_eq_true, reduceIte, Nat.reduceSub, Nat.reduceAdd, Nat.reduceEqDiff]), pb_pb]
          simp only [pret_pb]
        rw [e2]
        have hPn : PRX tk (a + 1, ps.2) ((o, base ++ avs (don ++ [(v, ps.1)])), g) j' (n + 1) := hP.at (by omega) hlt hjj (by omega)
        refine ih M (don ++ [(v, ps.1)]) (a + 1, ps.2) j' j0 _ K B0 C0 (B1 - 33) B _ (by omega) hPn hj' (by dsimp only; omega) rfl fun l a' j'' LV'' r0 r1 r2 r3 r4 r5 r6 => ?_
        dsimp only at r1
        have := hK ((v, ps.1) :: l) a' j'' LV'' (by simp) (by simp; omega) r2 r3 (by simp; omega) (by simpa using r5) (r6.trans (by simp [va_up]))
        simpa using this
      | false =>
        rw [pb_val (v := [(v, ps.1)]) (ps' := (a, ps.2)) (by simp only [hc, A0of, va_up, List.length_nil, List.length_cons, List.getD_cons_zero, List.getD_cons_succ, List.getD_nil, if_true, if_false, Bool.not_not, Bool.not_true, Bool.not_false, Bool.false_eq_true, reduceIte, Nat.reduceSub, Nat.reduceAdd, Nat.reduceEqDiff]), rn_wh]
        simp only [amth_eq, rn_seq, rn_if, rn_set, rn_inc, rn_ex, rn_ret, rn_ret0, rn_skip, rn_putF, rn_opF, rn_opU, rn_putS, rn_opS, rn_at, rn_atB, rn_add, rn_swap, rn_sw, rn_brk, rn_cnt, fin_ok, fin_ab, fin_ite, fin_og, fin_b, fin_0, fin_1, fin_v, fin_no, fin_none, d10, eq_self, decide_true, decide_false, ti_b, b2i_t, b2i_f, aK, aL, aF, aSz, aBin, aDiv, aB, aAt, aNd, aArgs, aCall, aIf, bCmp, bZ, bAnd, bOr, bNot, bTT, bIf, ab_ok, ab_no, ab_none, ab_ab, ab_ite, aok_ok, aok_none, og_ok, og_none, vbin_i, vb8_i, vput_i, vI_i, cmp_i, hold_eq, hold_ne, hold_lt, hold_ge, hold_gt, hold_le, b2i_0, ss_b, ss_ite, oAdd, oSub, oMul, Option.bind_some, A0of, va_up, List.length_nil, List.length_cons, List.getD_cons_zero, List.getD_cons_succ, List.getD_nil, if_true, if_false, Bool.not_not, Bool.not_true, Bool.not_false, Bool.false_eq_true, reduceIte, Nat.reduceSub, Nat.reduceAdd, Nat.reduceEqDiff]
        exact hK [(v, ps.1)] a j' _ (by simp) (by simp; omega) g2 hj' (by simp; omega) hS' (by simp [va_up])
theorem x_arr_pops {o : Nat} {base : List V} {g : (Nat × List V) × (Nat × List V)} (hm : 1 ≤ m) (N : Nat) : ∀ (l : List (TR × Nat)) (acc : TR) (LV : AL) (j : AS), l.length ≤ N → o + base.length + 2 * l.length < 2 ^ 31 → j.nn + l.length ≤ ALM → LV 1 = .int (nI (o + base.length)) → LV 4 = tv acc →
    ∃ LV', LV' 4 = tv (l.foldr (fun q acc => (54, tv q.1, tv acc, no, nI q.2)) acc) ∧ ∀ (K B C : KT), rn (zWh (N + 1) (bCmp .gt (aSz 13) (aL 1)) (zSeq (zSet 3 (aPop 13)) (zSeq (zSet 5 (aPop 13)) (zSet 4 (aCall (aX m) 21 [(aK 54), (aL 5), (aL 4), (aK (-1)), (aL 3)])))) zSkip LV (stX tk ps ((o, base ++ avs l), g) j)) K B C = K LV' (stX tk ps ((o, base), g) (mkN j l.length)) := by
  induction N with
  | zero =>
    intro l acc LV j h1 h2 h3 h4 h5
    have : l = [] := List.length_eq_zero_iff.mp (by omega)
    subst this
    refine ⟨LV, h5, fun K B C => ?_⟩
    rw [rn_wh]
    have e : decide (nI (o + base.length) < nI (o + base.length)) = false := decide_eq_false (nI_nlt (Nat.le_refl _) (by omega))
    simp only [d10, eq_self, decide_true, decide_false, ti_b, b2i_t, b2i_f, aK, aL, aF, aSz, aBin, aDiv, aB, aAt, aNd, aArgs, aCall, aIf, bCmp, bZ, bAnd, bOr, bNot, bTT, bIf, ab_ok, ab_no, ab_none, ab_ab, ab_ite, aok_ok, aok_none, og_ok, og_none, vbin_i, vb8_i, vput_i, vI_i, cmp_i, hold_eq, hold_ne, hold_lt, hold_ge, hold_gt, hold_le, b2i_0, ss_b, ss_ite, oAdd, oSub, oMul, Option.bind_some, A0of, va_up, List.length_nil, List.length_cons, List.getD_cons_zero, List.getD_cons_succ, List.getD_nil, if_true, if_false, Bool.not_not, Bool.not_true, Bool.not_false, Bool.false_eq_true, reduceIte, Nat.reduceSub, Nat.reduceAdd, Nat.reduceEqDiff, sX_f3, sX_f17, sX_f18, sX_f21, sX_R0, sX_R1, sX_R2, sX_R10, sX_R11, sX_R12, sX_R13, sX_R14, sX_R15, sX_o0, sX_o1, sX_o2, sX_o10, sX_o11, sX_o12, sX_o13, sX_o14, sX_o15, sX_nn, sX_fl, h4, avs, List.flatMap_nil, List.append_nil, e, List.length_nil, mkN_0]
  | succ N ih =>
    intro l acc LV j h1 h2 h3 h4 h5
    rcases cons_split l with rfl | ⟨i0, ⟨t, b⟩, rfl⟩
    · refine ⟨LV, h5, fun K B C => ?_⟩
      rw [rn_wh]
      have e : decide (nI (o + base.length) < nI (o + base.length)) = false := decide_eq_false (nI_nlt (Nat.le_refl _) (by omega))
      simp only [d10, eq_self, decide_true, decide_false, ti_b, b2i_t, b2i_f, aK, aL, aF, aSz, aBin, aDiv, aB, aAt, aNd, aArgs, aCall, aIf, bCmp, bZ, bAnd, bOr, bNot, bTT, bIf, ab_ok, ab_no, ab_none, ab_ab, ab_ite, aok_ok, aok_none, og_ok, og_none, vbin_i, vb8_i, vput_i, vI_i, cmp_i, hold_eq, hold_ne, hold_lt, hold_ge, hold_gt, hold_le, b2i_0, ss_b, ss_ite, oAdd, oSub, oMul, Option.bind_some, A0of, va_up, List.length_nil, List.length_cons, List.getD_cons_zero, List.getD_cons_succ, List.getD_nil, if_true, if_false, Bool.not_not, Bool.not_true, Bool.not_false, Bool.false_eq_true, reduceIte, Nat.reduceSub, Nat.reduceAdd, Nat.reduceEqDiff, sX_f3, sX_f17, sX_f18, sX_f21, sX_R0, sX_R1, sX_R2, sX_R10, sX_R11, sX_R12, sX_R13, sX_R14, sX_R15, sX_o0, sX_o1, sX_o2, sX_o10, sX_o11, sX_o12, sX_o13, sX_o14, sX_o15, sX_nn, sX_fl, h4, avs, List.flatMap_nil, List.append_nil, e, List.length_nil, mkN_0]
    · simp only [List.length_append, List.length_cons, List.length_nil] at h1 h2 h3
      have el : base ++ avs (i0 ++ [(t, b)]) = base ++ avs i0 ++ [tv t] ++ [Term.int (nI b)] := by simp [avs]
      have e : decide (nI (o + base.length) < nI (o + (base ++ avs i0 ++ [tv t] ++ [Term.int (nI b)]).length)) = true := by
        apply decide_eq_true
        apply nI_lt <;> simp [avs_len] <;> omega
      obtain ⟨LV', g1, g2⟩ := ih i0 (54, tv t, tv acc, no, nI b) (va_up (va_up (va_up LV 3 (.int (nI b))) 5 (tv t)) 4 (tv (54, tv t, tv acc, no, nI b))) (mkN j 1) (by omega) (by omega) (by rw [mkN_nn]; omega) (by simp [va_up, h4]) (by simp [va_up])
      refine ⟨LV', by rw [g1, List.foldr_append]; rfl, fun K B C => ?_⟩
      rw [rn_wh, el]
      simp (disch := first | assumption | omega | (simp only [pr0_1, pr1_1, pr2_1, pr0_10, pr1_10, pr2_10, pr0_11, pr1_11, pr2_11, pr0_12, pr1_12, pr2_12, pr0_13, pr1_13, pr2_13, pr0_14, pr1_14, pr2_14, pr0_15, pr1_15, pr2_15, pr0_16, pr1_16, pr2_16, pr0_17, pr1_17, pr2_17, pr0_18, pr1_18, pr2_18, pr0_19, pr1_19, pr2_19, pr0_20, pr1_20, pr2_20, pr0_30, pr1_30, pr2_30, pr0_31, pr1_31, pr2_31, pr0_32, pr1_32, pr2_32, pr0_33, pr1_33, pr2_33, pr0_34, pr1_34, pr2_34, pr0_35, pr1_35, pr2_35, pr0_36, pr1_36, pr2_36, pr0_37, pr1_37, pr2_37, pr0_50, pr1_50, pr2_50, pr0_51, pr1_51, pr2_51, pr0_52, pr1_52, pr2_52, pr0_53, pr1_53, pr2_53, pr0_54, pr1_54, pr2_54, pr0_70, pr1_70, pr2_70, pr0_71, pr1_71, pr2_71, pr0_72, pr1_72, pr2_72, pr0_73, pr1_73, pr2_73, pr0_74, pr1_74, pr2_74, pr0_75, pr1_75, pr2_75, pr0_76, pr1_76, pr2_76, pr0_77, pr1_77, pr2_77, pr0_78, pr1_78, pr2_78, pr0_79, pr1_79, pr2_79, pr0_80, pr1_80, pr2_80, pr0_81, pr1_81, pr2_81, pr0_82, pr1_82, pr2_82, pr0_83, pr1_83, pr2_83, pr0_84, pr1_84, pr2_84, okF_tv, okF_no, okF_n1, okF_i, okLi, okOv, ok33] <;> assumption) | decide | (simp only [mkN_nn, mkN_fl, sX_fl, sX_nn, List.length_append, List.length_cons, List.length_nil, List.length_map]; omega) | (dsimp only; omega)) only [d10, eq_self, decide_true, decide_false, ti_b, b2i_t, b2i_f, aK, aL, aF, aSz, aBin, aDiv, aB, aAt, aNd, aArgs, aCall, aIf, bCmp, bZ, bAnd, bOr, bNot, bTT, bIf, ab_ok, ab_no, ab_none, ab_ab, ab_ite, aok_ok, aok_none, og_ok, og_none, vbin_i, vb8_i, vput_i, vI_i, cmp_i, hold_eq, hold_ne, hold_lt, hold_ge, hold_gt, hold_le, b2i_0, ss_b, ss_ite, oAdd, oSub, oMul, Option.bind_some, A0of, va_up, List.length_nil, List.length_cons, List.getD_cons_zero, List.getD_cons_succ, List.getD_nil, if_true, if_false, Bool.not_not, Bool.not_true, Bool.not_false, Bool.false_eq_true, reduceIte, Nat.reduceSub, Nat.reduceAdd, Nat.reduceEqDiff, amth_eq, rn_seq, rn_if, rn_set, rn_inc, rn_ex, rn_ret, rn_ret0, rn_skip, rn_putF, rn_opF, rn_opU, rn_putS, rn_opS, rn_at, rn_atB, rn_add, rn_swap, rn_sw, rn_brk, rn_cnt, fin_ok, fin_ab, fin_ite, fin_og, fin_b, fin_0, fin_1, fin_v, fin_no, fin_none, sX_f3, sX_f17, sX_f18, sX_f21, sX_R0, sX_R1, sX_R2, sX_R10, sX_R11, sX_R12, sX_R13, sX_R14, sX_R15, sX_o0, sX_o1, sX_o2, sX_o10, sX_o11, sX_o12, sX_o13, sX_o14, sX_o15, sX_nn, sX_fl, h4, h5, e, xp13, x_make]
      have g2 := g2 K B C
      rw [mkN_mkN] at g2
      rw [show (i0 ++ [(t, b)]).length = 1 + i0.length by simp; omega]
      exact g2
theorem x_type {ty : PA TR} {c : Nat} (hpg : PGr tk ty) (hty : CoX W tk c 30 38 [] ty) : CoX W tk (max c 5 + 4) 30 38 [] (grT tk (pb (pArrs tk ty LF) fun l => pret (tArr l))) := by
  intro k ps f j B hk hP hB; have hP0 := hP; obtain ⟨ht, hps, ha, ho, hfr, hfl, hS⟩ := hP0; obtain ⟨n, rfl⟩ := suc1 (m := k) (by omega); have hf2 : 0 < (stX tk ps f j).fl := hfl; have ha2 : ps.1 ≤ tk.1.length := ha; have hA : ALM = 30000 := rfl
  obtain ⟨⟨o, base⟩, g⟩ := f
  refine ctx_grT ?_
  simp (disch := first | assumption | omega | (simp only [pr0_1, pr1_1, pr2_1, pr0_10, pr1_10, pr2_10, pr0_11, pr1_11, pr2_11, pr0_12, pr1_12, pr2_12, pr0_13, pr1_13, pr2_13, pr0_14, pr1_14, pr2_14, pr0_15, pr1_15, pr2_15, pr0_16, pr1_16, pr2_16, pr0_17, pr1_17, pr2_17, pr0_18, pr1_18, pr2_18, pr0_19, pr1_19, pr2_19, pr0_20, pr1_20, pr2_20, pr0_30, pr1_30, pr2_30, pr0_31, pr1_31, pr2_31, pr0_32, pr1_32, pr2_32, pr0_33, pr1_33, pr2_33, pr0_34, pr1_34, pr2_34, pr0_35, pr1_35, pr2_35, pr0_36, pr1_36, pr2_36, pr0_37, pr1_37, pr2_37, pr0_50, pr1_50, pr2_50, pr0_51, pr1_51, pr2_51, pr0_52, pr1_52, pr2_52, pr0_53, pr1_53, pr2_53, pr0_54, pr1_54, pr2_54, pr0_70, pr1_70, pr2_70, pr0_71, pr1_71, pr2_71, pr0_72, pr1_72, pr2_72, pr0_73, pr1_73, pr2_73, pr0_74, pr1_74, pr2_74, pr0_75, pr1_75, pr2_75, pr0_76, pr1_76, pr2_76, pr0_77, pr1_77, pr2_77, pr0_78, pr1_78, pr2_78, pr0_79, pr1_79, pr2_79, pr0_80, pr1_80, pr2_80, pr0_81, pr1_81, pr2_81, pr0_82, pr1_82, pr2_82, pr0_83, pr1_83, pr2_83, pr0_84, pr1_84, pr2_84, okF_tv, okF_no, okF_n1, okF_i, okLi, okOv, ok33] <;> assumption) | decide | (simp only [mkN_nn, mkN_fl, sX_fl, sX_nn, List.length_append, List.length_cons, List.length_nil, List.length_map]; omega) | (dsimp only; omega)) only [eX_type, zX_type, amth_eq, rn_seq, rn_if, rn_set, rn_inc, rn_ex, rn_ret, rn_ret0, rn_skip, rn_putF, rn_opF, rn_opU, rn_putS, rn_opS, rn_at, rn_atB, rn_add, rn_swap, rn_sw, rn_brk, rn_cnt, fin_ok, fin_ab, fin_ite, fin_og, fin_b, fin_0, fin_1, fin_v, fin_no, fin_none, d10, eq_self, decide_true, decide_false, ti_b, b2i_t, b2i_f, aK, aL, aF, aSz, aBin, aDiv, aB, aAt, aNd, aArgs, aCall, aIf, bCmp, bZ, bAnd, bOr, bNot, bTT, bIf, ab_ok, ab_no, ab_none, ab_ab, ab_ite, aok_ok, aok_none, og_ok, og_none, vbin_i, vb8_i, vput_i, vI_i, cmp_i, hold_eq, hold_ne, hold_lt, hold_ge, hold_gt, hold_le, b2i_0, ss_b, ss_ite, oAdd, oSub, oMul, Option.bind_some, A0of, va_up, List.length_nil, List.length_cons, List.getD_cons_zero, List.getD_cons_succ, List.getD_nil, if_true, if_false, Bool.not_not, Bool.not_true, Bool.not_false, Bool.false_eq_true, reduceIte, Nat.reduceSub, Nat.reduceAdd, Nat.reduceEqDiff, sX_f3, sX_f17, sX_f18, sX_f21, sX_R0, sX_R1, sX_R2, sX_R10, sX_R11, sX_R12, sX_R13, sX_R14, sX_R15, sX_o0, sX_o1, sX_o2, sX_o10, sX_o11, sX_o12, sX_o13, sX_o14, sX_o15, sX_nn, sX_fl, sX_p3, sX_p17, sX_p18, sX_p21, sX_p13, sX_p14, sX_p15, sX_p10, sX_p11, sX_p12, nI_1, nI_pred]
  have hprod := x_product hpg hty
  have h0 : base = base ++ avs [] := by simp [avs]
  have key := x_arrs_loop (n := n) (tk := tk) (em := tv) (fo := ((o, base), g)) (o := o) (base := base) (g := g) (by omega) (fun ps f j B h1 h2 => hprod n ps f j B (by omega) h1 h2) 99999 LF [] ps j j (va_up (va_up (A0of true []) 1 (.int (nI (o + base.length)))) 2 (.int 1))
    (fun L A => ab (aPop 13 L A) fun v A => ab (aPop 13 (va_up L 3 v) A) fun v_1 A => rn (zWh LN (bCmp .gt (aSz 13) (aL 1)) (zSeq (zSet 3 (aPop 13)) (zSeq (zSet 5 (aPop 13)) (zSet 4 (aCall (aX n) 21 [(aK 54), (aL 5), (aL 4), (aK (-1)), (aL 3)])))) zSkip (va_up (va_up L 3 v) 4 v_1) A) (fun L A => some (some (L 4), A)) nk nk)
    nk nk (j.nn + 100 * (Tn tk - ps.1)) B (fun l => pret (tArr l)) (by decide) (by rw [← h0]; exact hP) (je.rf (W := W) j) (Nat.le_refl _) rfl (by
      intro l a j1 LV' r0 r1 r2 r3 r4 r5 r6
      rcases cons_split l with rfl | ⟨i0, ⟨t, b⟩, rfl⟩
      · exact absurd rfl r0
      · simp only [List.length_append, List.length_cons, List.length_nil, List.nil_append] at r1 r4 r5 ⊢
        have el : base ++ avs (i0 ++ [(t, b)]) = base ++ avs i0 ++ [tv t] ++ [Term.int (nI b)] := by simp [avs]
        rw [el] at r5 ⊢
        rw [fS_push, fS_push, fS_push, avs_len] at r5
        have hfo : o + base.length ≤ fS ((o, base), g) := by simp only [fS]; omega
        obtain ⟨LV2, g1, g2⟩ := x_arr_pops (tk := tk) (ps := (a, ps.2)) (o := o) (base := base) (g := g) (m := n) (by omega) 99999 i0 t (va_up (va_up LV' 3 (.int (nI b))) 4 (tv t)) j1 (by omega) (by omega) (by omega) (by simpa [va_up] using r6) (by simp [va_up])
        simp only [xp13, d10, eq_self, decide_true, decide_false, ti_b, b2i_t, b2i_f, aK, aL, aF, aSz, aBin, aDiv, aB, aAt, aNd, aArgs, aCall, aIf, bCmp, bZ, bAnd, bOr, bNot, bTT, bIf, ab_ok, ab_no, ab_none, ab_ab, ab_ite, aok_ok, aok_none, og_ok, og_none, vbin_i, vb8_i, vput_i, vI_i, cmp_i, hold_eq, hold_ne, hold_lt, hold_ge, hold_gt, hold_le, b2i_0, ss_b, ss_ite, oAdd, oSub, oMul, Option.bind_some]
        rw [g2]
        simp only [g1, tArr_last]
        exact ctx_ret (r3.mk _) (by rw [mkN_nn]; dsimp only; omega))
  rw [← h0] at key
  exact key
theorem x_types : ∀ n, CoX W tk (5 + 4 * n) 30 38 [] (pTy n tk) ∧ PGr tk (pTy n tk) := by
  intro n
  induction n with
  | zero => exact ⟨fun k ps f j B _ _ _ => trivial, fun ps v ps' _ h => by cases h⟩
  | succ n ih =>
    refine ⟨fun k ps f j B hk hP hB => x_type ih.2 ih.1 k ps f j B (by omega) hP hB, pgr_grT⟩
end XT4
