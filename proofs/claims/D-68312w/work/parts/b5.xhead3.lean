/-! X: the head of a clause, whole -/
section XHF
variable {tk : TK} {ps ps' ps2 : PS} {f f1 f' : FX} {j j1 j' j2 j0 : AS} {m n k k' : Nat} {A A' : AS} {LV : AL} {α : Type} {em : α → V} {fo : FX} {B : Nat}
theorem ctx_pbQ {β : Type} {W : Bool} {r : Option (Option V × AS)} {p : PA β} {F : β → PA α} (h : CTx W em tk f j B r (pb p (fun v ps' => if ps.1 ≤ ps'.1 ∧ ps'.1 ≤ Tn tk ∧ ps'.2 = ps.2 then F v ps' else none) ps)) : CTx W em tk f j B r (pb (grQ tk p) F ps) := by
  unfold pb grQ at *
  cases hp : p ps with
  | none => exact trivial
  | some q =>
    rw [hp] at h
    match q, h with
    | .inr e, h =>
      dsimp only at h ⊢
      split
      · exact trivial
      · next heq =>
        split at heq
        · cases heq; exact h
        · cases heq
      · next heq =>
        split at heq
        · cases heq
        · cases heq
    | .inl (v, ps'), h =>
      dsimp only at h ⊢
      by_cases hg : ps.1 ≤ ps'.1 ∧ ps'.1 ≤ Tn tk ∧ ps'.2 = ps.2
      · rw [if_pos hg] at h ⊢
        exact h
      · rw [if_neg hg]
        exact trivial
theorem ctx_trg {aq ap : PA TR} {F : Option (Int32 × TR) → PA α} {r : Option (Option V × AS)} (h : CTx false em tk fo j0 B r (pb (pTry tk aq) F ps)) : CTx false em tk fo j0 B r (pb (pTrg tk aq ap) F ps) := by
  unfold pb pTrg at *
  match hq : pTry tk aq ps, h with
  | none, _ => exact trivial
  | some (.inl (v, ps')), h => exact h
  | some (.inr e), h =>
    cases ap ps with
    | none => exact trivial
    | some _ => exact h
theorem x_head {aq ap : PA TR} {c o : Nat} {gg : (Nat × List V) × (Nat × List V)} {row : List V} {F : Int32 × List TR → PA α} {g : V → AS → Option (Option V × AS)} (haq : CoX true tk c 60 30 [] aq) (hqa : PGt tk aq) (hap : CoX true tk c 60 30 [] ap) (hq : PGt tk ap) (hn : max c 5 + 3 ≤ n) (hP : PRX tk ps ((o, row), gg) j (n + 1)) (hj : je false j0 j) (hK : ∀ nm ts a j', ps.1 < a → a ≤ Tn tk → 1 ≤ ts.length → je false j0 j' → j'.1 21 = nm → 0 ≤ nm ∧ nm ≤ 8191 → j'.nn + 100 * (Tn tk - a) + 50 * ts.length ≤ j.nn + 100 * (Tn tk - ps.1) → CTx false em tk fo j0 B (g (.int 0) (stX tk (a, ps.2) ((o, row ++ ts.map tv), gg) j')) (F (nm, ts) (a, ps.2))) :
    CTx false em tk fo j0 B (ab (aX n 86 [] (stX tk ps ((o, row), gg) j)) g) (pb (grQ tk (pHead tk aq ap)) F ps) := by
  refine ctx_pbQ ?_
  obtain ⟨n, rfl⟩ := suc1 (m := n) (by omega)
  have hP' := hP.dn
  obtain ⟨ht, hps, ha, ho, hfr, hfl, hS⟩ := id hP'
  have ha2 : ps.1 ≤ tk.1.length := ha
  have hx := hps.1
  have hK' : ∀ nm ts a j', ps.1 < a → a ≤ Tn tk → 1 ≤ ts.length → je false j0 j' → j'.1 21 = nm → 0 ≤ nm ∧ nm ≤ 8191 → j'.nn + 100 * (Tn tk - a) + 50 * ts.length ≤ j.nn + 100 * (Tn tk - ps.1) → CTx false em tk fo j0 B (g (.int 0) (stX tk (a, ps.2) ((o, row ++ ts.map tv), gg) j')) ((fun v (ps' : PS) => if ps.1 ≤ ps'.1 ∧ ps'.1 ≤ Tn tk ∧ ps'.2 = ps.2 then F v ps' else none) (nm, ts) (a, ps.2)) := by
    intro nm ts a j' h1 h2 h3 h4 h5 h6 h7
    dsimp only
    rw [if_pos ⟨Nat.le_of_lt h1, h2, rfl⟩]
    exact hK nm ts a j' h1 h2 h3 h4 h5 h6 h7
  generalize (fun v (ps' : PS) => if ps.1 ≤ ps'.1 ∧ ps'.1 ≤ Tn tk ∧ ps'.2 = ps.2 then F v ps' else none) = F' at hK' ⊢
  have e11 : ∀ LV : AL, aCall (aX n) 11 [(aK 22)] LV (stX tk ps ((o, row), gg) j) = some (some (.int (b2i (sg tk ps.1 22))), stX tk ps ((o, row), gg) j) := by
    intro LV
    simp (disch := first | assumption | omega | (simp only [pr0_1, pr1_1, pr2_1, pr0_10, pr1_10, pr2_10, pr0_11, pr1_11, pr2_11, pr0_12, pr1_12, pr2_12, pr0_13, pr1_13, pr2_13, pr0_14, pr1_14, pr2_14, pr0_15, pr1_15, pr2_15, pr0_16, pr1_16, pr2_16, pr0_17, pr1_17, pr2_17, pr0_18, pr1_18, pr2_18, pr0_19, pr1_19, pr2_19, pr0_20, pr1_20, pr2_20, pr0_30, pr1_30, pr2_30, pr0_31, pr1_31, pr2_31, pr0_32, pr1_32, pr2_32, pr0_33, pr1_33, pr2_33, pr0_34, pr1_34, pr2_34, pr0_35, pr1_35, pr2_35, pr0_36, pr1_36, pr2_36, pr0_37, pr1_37, pr2_37, pr0_50, pr1_50, pr2_50, pr0_51, pr1_51, pr2_51, pr0_52, pr1_52, pr2_52, pr0_53, pr1_53, pr2_53, pr0_54, pr1_54, pr2_54, pr0_70, pr1_70, pr2_70, pr0_71, pr1_71, pr2_71, pr0_72, pr1_72, pr2_72, pr0_73, pr1_73, pr2_73, pr0_74, pr1_74, pr2_74, pr0_75, pr1_75, pr2_75, pr0_76, pr1_76, pr2_76, pr0_77, pr1_77, pr2_77, pr0_78, pr1_78, pr2_78, pr0_79, pr1_79, pr2_79, pr0_80, pr1_80, pr2_80, pr0_81, pr1_81, pr2_81, pr0_82, pr1_82, pr2_82, pr0_83, pr1_83, pr2_83, pr0_84, pr1_84, pr2_84, okF_tv, okF_no, okF_n1, okF_i, okLi, okOv, ok33] <;> assumption) | decide | (simp only [mkN_nn, mkN_fl, sX_fl, sX_nn, List.length_append, List.length_cons, List.length_nil, List.length_map]; omega) | (dsimp only; omega)) only [d10, eq_self, decide_true, decide_false, ti_b, b2i_t, b2i_f, aK, aL, aF, aSz, aBin, aDiv, aB, aAt, aNd, aArgs, aCall, aIf, bCmp, bZ, bAnd, bOr, bNot, bTT, bIf, ab_ok, ab_no, ab_none, ab_ab, ab_ite, aok_ok, aok_none, og_ok, og_none, vbin_i, vb8_i, vput_i, vI_i, cmp_i, hold_eq, hold_ne, hold_lt, hold_ge, hold_gt, hold_le, b2i_0, ss_b, ss_ite, oAdd, oSub, oMul, Option.bind_some, A0of, va_up, List.length_nil, List.length_cons, List.getD_cons_zero, List.getD_cons_succ, List.getD_nil, if_true, if_false, Bool.not_not, Bool.not_true, Bool.not_false, Bool.false_eq_true, reduceIte, Nat.reduceSub, Nat.reduceAdd, Nat.reduceEqDiff, x_isSign]
  have ec : ∀ LV : AL, LV 1 = .int (b2i (sg tk ps.1 22)) → (bOr (bZ .ne (aL 1)) (bAnd (bAnd (bZ .ne (aCall (aX n) 29 [(aK 0)])) (bNot (bZ .ne (aCall (aX n) 33 [(aK 0)])))) (bNot (bZ .ne (aCall (aX n) 33 [(aK 1)]))))) LV (stX tk ps ((o, row), gg) j) = some (some (sg tk ps.1 22 || (nmB tk ps.1 && !oprB tk ps.2.2.2.1 ps.1 && !oprB tk ps.2.2.2.1 (ps.1 + 1))), stX tk ps ((o, row), gg) j) := by
    intro LV h
    cases h1 : sg tk ps.1 22 with
    | true => simp (disch := first | assumption | omega | (simp only [pr0_1, pr1_1, pr2_1, pr0_10, pr1_10, pr2_10, pr0_11, pr1_11, pr2_11, pr0_12, pr1_12, pr2_12, pr0_13, pr1_13, pr2_13, pr0_14, pr1_14, pr2_14, pr0_15, pr1_15, pr2_15, pr0_16, pr1_16, pr2_16, pr0_17, pr1_17, pr2_17, pr0_18, pr1_18, pr2_18, pr0_19, pr1_19, pr2_19, pr0_20, pr1_20, pr2_20, pr0_30, pr1_30, pr2_30, pr0_31, pr1_31, pr2_31, pr0_32, pr1_32, pr2_32, pr0_33, pr1_33, pr2_33, pr0_34, pr1_34, pr2_34, pr0_35, pr1_35, pr2_35, pr0_36, pr1_36, pr2_36, pr0_37, pr1_37, pr2_37, pr0_50, pr1_50, pr2_50, pr0_51, pr1_51, pr2_51, pr0_52, pr1_52, pr2_52, pr0_53, pr1_53, pr2_53, pr0_54, pr1_54, pr2_54, pr0_70, pr1_70, pr2_70, pr0_71, pr1_71, pr2_71, pr0_72, pr1_72, pr2_72, pr0_73, pr1_73, pr2_73, pr0_74, pr1_74, pr2_74, pr0_75, pr1_75, pr2_75, pr0_76, pr1_76, pr2_76, pr0_77, pr1_77, pr2_77, pr0_78, pr1_78, pr2_78, pr0_79, pr1_79, pr2_79, pr0_80, pr1_80, pr2_80, pr0_81, pr1_81, pr2_81, pr0_82, pr1_82, pr2_82, pr0_83, pr1_83, pr2_83, pr0_84, pr1_84, pr2_84, okF_tv, okF_no, okF_n1, okF_i, okLi, okOv, ok33] <;> assumption) | decide | (simp only [mkN_nn, mkN_fl, sX_fl, sX_nn, List.length_append, List.length_cons, List.length_nil, List.length_map]; omega) | (dsimp only; omega)) only [d10, eq_self, decide_true, decide_false, ti_b, b2i_t, b2i_f, aK, aL, aF, aSz, aBin, aDiv, aB, aAt, aNd, aArgs, aCall, aIf, bCmp, bZ, bAnd, bOr, bNot, bTT, bIf, ab_ok, ab_no, ab_none, ab_ab, ab_ite, aok_ok, aok_none, og_ok, og_none, vbin_i, vb8_i, vput_i, vI_i, cmp_i, hold_eq, hold_ne, hold_lt, hold_ge, hold_gt, hold_le, b2i_0, ss_b, ss_ite, oAdd, oSub, oMul, Option.bind_some, A0of, va_up, List.length_nil, List.length_cons, List.getD_cons_zero, List.getD_cons_succ, List.getD_nil, if_true, if_false, Bool.not_not, Bool.not_true, Bool.not_false, Bool.false_eq_true, reduceIte, Nat.reduceSub, Nat.reduceAdd, Nat.reduceEqDiff, h, h1, Bool.true_or]
    | false => cases h2 : nmB tk ps.1 with
      | false => simp (disch := first | assumption | omega | (simp only [pr0_1, pr1_1, pr2_1, pr0_10, pr1_10, pr2_10, pr0_11, pr1_11, pr2_11, pr0_12, pr1_12, pr2_12, pr0_13, pr1_13, pr2_13, pr0_14, pr1_14, pr2_14, pr0_15, pr1_15, pr2_15, pr0_16, pr1_16, pr2_16, pr0_17, pr1_17, pr2_17, pr0_18, pr1_18, pr2_18, pr0_19, pr1_19, pr2_19, pr0_20, pr1_20, pr2_20, pr0_30, pr1_30, pr2_30, pr0_31, pr1_31, pr2_31, pr0_32, pr1_32, pr2_32, pr0_33, pr1_33, pr2_33, pr0_34, pr1_34, pr2_34, pr0_35, pr1_35, pr2_35, pr0_36, pr1_36, pr2_36, pr0_37, pr1_37, pr2_37, pr0_50, pr1_50, pr2_50, pr0_51, pr1_51, pr2_51, pr0_52, pr1_52, pr2_52, pr0_53, pr1_53, pr2_53, pr0_54, pr1_54, pr2_54, pr0_70, pr1_70, pr2_70, pr0_71, pr1_71, pr2_71, pr0_72, pr1_72, pr2_72, pr0_73, pr1_73, pr2_73, pr0_74, pr1_74, pr2_74, pr0_75, pr1_75, pr2_75, pr0_76, pr1_76, pr2_76, pr0_77, pr1_77, pr2_77, pr0_78, pr1_78, pr2_78, pr0_79, pr1_79, pr2_79, pr0_80, pr1_80, pr2_80, pr0_81, pr1_81, pr2_81, pr0_82, pr1_82, pr2_82, pr0_83, pr1_83, pr2_83, pr0_84, pr1_84, pr2_84, okF_tv, okF_no, okF_n1, okF_i, okLi, okOv, ok33] <;> assumption) | decide | (simp only [mkN_nn, mkN_fl, sX_fl, sX_nn, List.length_append, List.length_cons, List.length_nil, List.length_map]; omega) | (dsimp only; omega)) only [d10, eq_self, decide_true, decide_false, ti_b, b2i_t, b2i_f, aK, aL, aF, aSz, aBin, aDiv, aB, aAt, aNd, aArgs, aCall, aIf, bCmp, bZ, bAnd, bOr, bNot, bTT, bIf, ab_ok, ab_no, ab_none, ab_ab, ab_ite, aok_ok, aok_none, og_ok, og_none, vbin_i, vb8_i, vput_i, vI_i, cmp_i, hold_eq, hold_ne, hold_lt, hold_ge, hold_gt, hold_le, b2i_0, ss_b, ss_ite, oAdd, oSub, oMul, Option.bind_some, A0of, va_up, List.length_nil, List.length_cons, List.getD_cons_zero, List.getD_cons_succ, List.getD_nil, if_true, if_false, Bool.not_not, Bool.not_true, Bool.not_false, Bool.false_eq_true, reduceIte, Nat.reduceSub, Nat.reduceAdd, Nat.reduceEqDiff, h, h1, x_isName0, h2, Bool.false_or, Bool.false_and]
      | true => cases h3 : oprB tk ps.2.2.2.1 ps.1 <;> cases h4 : oprB tk ps.2.2.2.1 (ps.1 + 1) <;> simp (disch := first | assumption | omega | (simp only [pr0_1, pr1_1, pr2_1, pr0_10, pr1_10, pr2_10, pr0_11, pr1_11, pr2_11, pr0_12, pr1_12, pr2_12, pr0_13, pr1_13, pr2_13, pr0_14, pr1_14, pr2_14, pr0_15, pr1_15, pr2_15, pr0_16, pr1_16, pr2_16, pr0_17, pr1_17, pr2_17, pr0_18, pr1_18, pr2_18, pr0_19, pr1_19, pr2_19, pr0_20, pr1_20, pr2_20, pr0_30, pr1_30, pr2_30, pr0_31, pr1_31, pr2_31, pr0_32, pr1_32, pr2_32, pr0_33, pr1_33, pr2_33, pr0_34, pr1_34, pr2_34, pr0_35, pr1_35, pr2_35, pr0_36, pr1_36, pr2_36, pr0_37, pr1_37, pr2_37, pr0_50, pr1_50, pr2_50, pr0_51, pr1_51, pr2_51, pr0_52, pr1_52, pr2_52, pr0_53, pr1_53, pr2_53, pr0_54, pr1_54, pr2_54, pr0_70, pr1_70, pr2_70, pr0_71, pr1_71, pr2_71, pr0_72, pr1_72, pr2_72, pr0_73, pr1_73, pr2_73, pr0_74, pr1_74, pr2_74, pr0_75, pr1_75, pr2_75, pr0_76, pr1_76, pr2_76, pr0_77, pr1_77, pr2_77, pr0_78, pr1_78, pr2_78, pr0_79, pr1_79, pr2_79, pr0_80, pr1_80, pr2_80, pr0_81, pr1_81, pr2_81, pr0_82, pr1_82, pr2_82, pr0_83, pr1_83, pr2_83, pr0_84, pr1_84, pr2_84, okF_tv, okF_no, okF_n1, okF_i, okLi, okOv, ok33] <;> assumption) | decide | (simp only [mkN_nn, mkN_fl, sX_fl, sX_nn, List.length_append, List.length_cons, List.length_nil, List.length_map]; omega) | (dsimp only; omega)) only [d10, eq_self, decide_true, decide_false, ti_b, b2i_t, b2i_f, aK, aL, aF, aSz, aBin, aDiv, aB, aAt, aNd, aArgs, aCall, aIf, bCmp, bZ, bAnd, bOr, bNot, bTT, bIf, ab_ok, ab_no, ab_none, ab_ab, ab_ite, aok_ok, aok_none, og_ok, og_none, vbin_i, vb8_i, vput_i, vI_i, cmp_i, hold_eq, hold_ne, hold_lt, hold_ge, hold_gt, hold_le, b2i_0, ss_b, ss_ite, oAdd, oSub, oMul, Option.bind_some, A0of, va_up, List.length_nil, List.length_cons, List.getD_cons_zero, List.getD_cons_succ, List.getD_nil, if_true, if_false, Bool.not_not, Bool.not_true, Bool.not_false, Bool.false_eq_true, reduceIte, Nat.reduceSub, Nat.reduceAdd, Nat.reduceEqDiff, h, h1, x_isName0, h2, x_isOp0, h3, x_isOp1, h4, Bool.false_or, Bool.true_and, Bool.false_and]
  simp only [eX_head, zX_head, amth_run, List.length_nil, if_true, fin_void, ab_ab, ab_ok]
  rw [run_seq, run_set, e11, kS_ok, run_seq, run_if, ec _ rfl]
  have ep : pHead tk aq ap ps = if (sg tk ps.1 22 || (nmB tk ps.1 && !oprB tk ps.2.2.2.1 ps.1 && !oprB tk ps.2.2.2.1 (ps.1 + 1))) = true then
    (fun q : PS => if (sg tk ps.1 22 && sg tk q.1 45) = true then pb ap (fun t => pb (pArgs tk ap LF) fun l => pret (6, t :: l)) (q.1 + 1, q.2)
      else if nmB tk q.1 = true then pb ap (fun t => pb (pArgs tk ap LF) fun l => pret (vAt tk q.1, t :: l)) (q.1 + 1, q.2) else pflt 1 q) (if sg tk ps.1 22 = true then (ps.1 + 1, ps.2) else ps)
    else pb (fun ps => if sg tk ps.1 33 = true then pTrg tk aq ap ps else some (.inl (none, ps))) (fun o => match o with
    | some (n, t) => pb (pArgs tk ap LF) fun l => pret (n, t :: l)
    | none => pb ap fun one ps2 => if oprB tk ps2.2.2.2.1 ps2.1 = true then pb ap (fun two => pret (vAt tk ps2.1, [tPair true one two (nI ps.1)])) (ps2.1 + 1, ps2.2) else pflt 1 ps2) ps := rfl
  cases hc : (sg tk ps.1 22 || (nmB tk ps.1 && !oprB tk ps.2.2.2.1 ps.1 && !oprB tk ps.2.2.2.1 (ps.1 + 1))) with
  | true =>
    rw [hc, if_pos rfl] at ep
    rw [kI_t, run_seq, run_if]
    cases h22 : sg tk ps.1 22 with
    | true =>
      have hlt : ps.1 < Tn tk := sg_lt h22
      rw [h22, if_pos rfl] at ep
      rw [pb_at (p' := fun q : PS => if (true && sg tk q.1 45) = true then pb ap (fun t => pb (pArgs tk ap LF) fun l => pret (6, t :: l)) (q.1 + 1, q.2)
      else if nmB tk q.1 = true then pb ap (fun t => pb (pArgs tk ap LF) fun l => pret (vAt tk q.1, t :: l)) (q.1 + 1, q.2) else pflt 1 q) (ps' := (ps.1 + 1, ps.2)) ep]
      have e1 : ∀ A, bZ .ne (aL 1) (va_up (A0of true []) 1 (.int (b2i true))) A = some (some true, A) := fun A => rfl
      rw [e1, kI_t, run_opF, aK_e, kOF_ok, sX_f3, show oAdd (nI ps.1) 1 = nI (ps.1 + 1) from nI_1 _, sX_p3]
      exact x_headA hap hq (by omega) hP' hj hK' (ps.1 + 1) true (Nat.le_succ _) hlt rfl
    | false =>
      rw [h22, if_neg (by decide)] at ep
      rw [pb_at (p' := fun q : PS => if (false && sg tk q.1 45) = true then pb ap (fun t => pb (pArgs tk ap LF) fun l => pret (6, t :: l)) (q.1 + 1, q.2)
      else if nmB tk q.1 = true then pb ap (fun t => pb (pArgs tk ap LF) fun l => pret (vAt tk q.1, t :: l)) (q.1 + 1, q.2) else pflt 1 q) (ps' := ps) ep]
      have e1 : ∀ A, bZ .ne (aL 1) (va_up (A0of true []) 1 (.int (b2i false))) A = some (some false, A) := fun A => rfl
      rw [e1, kI_f, run_skip]
      exact x_headA hap hq (by omega) hP' hj hK' ps.1 false (Nat.le_refl _) ha rfl
  | false =>
    rw [hc, if_neg (by decide)] at ep
    rw [pb_at ep, pb_pb, kI_f, run_skip, run_seq, run_if]
    cases h33 : sg tk ps.1 33 with
    | false =>
      have e2 : ∀ LV : AL, (bAnd (bZ .ne (aCall (aX n) 11 [(aK 33)])) (bZ .ne (aCall (aX n) 88 []))) LV (stX tk ps ((o, row), gg) j) = some (some false, stX tk ps ((o, row), gg) j) := by
        intro LV
        simp (disch := first | assumption | omega | (simp only [pr0_1, pr1_1, pr2_1, pr0_10, pr1_10, pr2_10, pr0_11, pr1_11, pr2_11, pr0_12, pr1_12, pr2_12, pr0_13, pr1_13, pr2_13, pr0_14, pr1_14, pr2_14, pr0_15, pr1_15, pr2_15, pr0_16, pr1_16, pr2_16, pr0_17, pr1_17, pr2_17, pr0_18, pr1_18, pr2_18, pr0_19, pr1_19, pr2_19, pr0_20, pr1_20, pr2_20, pr0_30, pr1_30, pr2_30, pr0_31, pr1_31, pr2_31, pr0_32, pr1_32, pr2_32, pr0_33, pr1_33, pr2_33, pr0_34, pr1_34, pr2_34, pr0_35, pr1_35, pr2_35, pr0_36, pr1_36, pr2_36, pr0_37, pr1_37, pr2_37, pr0_50, pr1_50, pr2_50, pr0_51, pr1_51, pr2_51, pr0_52, pr1_52, pr2_52, pr0_53, pr1_53, pr2_53, pr0_54, pr1_54, pr2_54, pr0_70, pr1_70, pr2_70, pr0_71, pr1_71, pr2_71, pr0_72, pr1_72, pr2_72, pr0_73, pr1_73, pr2_73, pr0_74, pr1_74, pr2_74, pr0_75, pr1_75, pr2_75, pr0_76, pr1_76, pr2_76, pr0_77, pr1_77, pr2_77, pr0_78, pr1_78, pr2_78, pr0_79, pr1_79, pr2_79, pr0_80, pr1_80, pr2_80, pr0_81, pr1_81, pr2_81, pr0_82, pr1_82, pr2_82, pr0_83, pr1_83, pr2_83, pr0_84, pr1_84, pr2_84, okF_tv, okF_no, okF_n1, okF_i, okLi, okOv, ok33] <;> assumption) | decide | (simp only [mkN_nn, mkN_fl, sX_fl, sX_nn, List.length_append, List.length_cons, List.length_nil, List.length_map]; omega) | (dsimp only; omega)) only [d10, eq_self, decide_true, decide_false, ti_b, b2i_t, b2i_f, aK, aL, aF, aSz, aBin, aDiv, aB, aAt, aNd, aArgs, aCall, aIf, bCmp, bZ, bAnd, bOr, bNot, bTT, bIf, ab_ok, ab_no, ab_none, ab_ab, ab_ite, aok_ok, aok_none, og_ok, og_none, vbin_i, vb8_i, vput_i, vI_i, cmp_i, hold_eq, hold_ne, hold_lt, hold_ge, hold_gt, hold_le, b2i_0, ss_b, ss_ite, oAdd, oSub, oMul, Option.bind_some, A0of, va_up, List.length_nil, List.length_cons, List.getD_cons_zero, List.getD_cons_succ, List.getD_nil, if_true, if_false, Bool.not_not, Bool.not_true, Bool.not_false, Bool.false_eq_true, reduceIte, Nat.reduceSub, Nat.reduceAdd, Nat.reduceEqDiff, x_isSign, h33]
      rw [e2, kI_f, run_skip, pb_val (v := none) (ps' := ps) (by simp only [h33, Bool.false_eq_true, if_false])]
      exact x_headB hap hq (by omega) hP' hj hK'
    | true =>
      have e2 : ∀ LV : AL, (bAnd (bZ .ne (aCall (aX n) 11 [(aK 33)])) (bZ .ne (aCall (aX n) 88 []))) LV (stX tk ps ((o, row), gg) j) = ab (aX n 88 [] (stX tk ps ((o, row), gg) j)) fun x A => aok (cmpV .ne x (.int 0)) A := by
        intro LV
        simp (disch := first | assumption | omega | (simp only [pr0_1, pr1_1, pr2_1, pr0_10, pr1_10, pr2_10, pr0_11, pr1_11, pr2_11, pr0_12, pr1_12, pr2_12, pr0_13, pr1_13, pr2_13, pr0_14, pr1_14, pr2_14, pr0_15, pr1_15, pr2_15, pr0_16, pr1_16, pr2_16, pr0_17, pr1_17, pr2_17, pr0_18, pr1_18, pr2_18, pr0_19, pr1_19, pr2_19, pr0_20, pr1_20, pr2_20, pr0_30, pr1_30, pr2_30, pr0_31, pr1_31, pr2_31, pr0_32, pr1_32, pr2_32, pr0_33, pr1_33, pr2_33, pr0_34, pr1_34, pr2_34, pr0_35, pr1_35, pr2_35, pr0_36, pr1_36, pr2_36, pr0_37, pr1_37, pr2_37, pr0_50, pr1_50, pr2_50, pr0_51, pr1_51, pr2_51, pr0_52, pr1_52, pr2_52, pr0_53, pr1_53, pr2_53, pr0_54, pr1_54, pr2_54, pr0_70, pr1_70, pr2_70, pr0_71, pr1_71, pr2_71, pr0_72, pr1_72, pr2_72, pr0_73, pr1_73, pr2_73, pr0_74, pr1_74, pr2_74, pr0_75, pr1_75, pr2_75, pr0_76, pr1_76, pr2_76, pr0_77, pr1_77, pr2_77, pr0_78, pr1_78, pr2_78, pr0_79, pr1_79, pr2_79, pr0_80, pr1_80, pr2_80, pr0_81, pr1_81, pr2_81, pr0_82, pr1_82, pr2_82, pr0_83, pr1_83, pr2_83, pr0_84, pr1_84, pr2_84, okF_tv, okF_no, okF_n1, okF_i, okLi, okOv, ok33] <;> assumption) | decide | (simp only [mkN_nn, mkN_fl, sX_fl, sX_nn, List.length_append, List.length_cons, List.length_nil, List.length_map]; omega) | (dsimp only; omega)) only [d10, eq_self, decide_true, decide_false, ti_b, b2i_t, b2i_f, aK, aL, aF, aSz, aBin, aDiv, aB, aAt, aNd, aArgs, aCall, aIf, bCmp, bZ, bAnd, bOr, bNot, bTT, bIf, ab_ok, ab_no, ab_none, ab_ab, ab_ite, aok_ok, aok_none, og_ok, og_none, vbin_i, vb8_i, vput_i, vI_i, cmp_i, hold_eq, hold_ne, hold_lt, hold_ge, hold_gt, hold_le, b2i_0, ss_b, ss_ite, oAdd, oSub, oMul, Option.bind_some, A0of, va_up, List.length_nil, List.length_cons, List.getD_cons_zero, List.getD_cons_succ, List.getD_nil, if_true, if_false, Bool.not_not, Bool.not_true, Bool.not_false, Bool.false_eq_true, reduceIte, Nat.reduceSub, Nat.reduceAdd, Nat.reduceEqDiff, x_isSign, h33]
      rw [e2, pb_at (p' := pTrg tk aq ap) (ps' := ps) (by simp only [h33, if_true])]
      rw [show ∀ (a b : ZX) (zs : List ZX) (K : KT) (L : AL) (r : Option (Option Bool × AS)), kI a b zs K L r = ab r fun q A => if q = true then run (a :: zs) K L A else run (b :: zs) K L A from fun _ _ _ _ _ _ => rfl, ab_ab, ab_ab]
      obtain ⟨n, rfl⟩ := suc1 (m := n) (by omega)
      refine ctx_trg ?_
      refine x_try haq hqa (by omega) hP'.dn hj (fun j' h1 h2 => ?_) (fun nm one two a j' h1 h2 h3 h4 h4' h5 => ?_)
      · simp only [d10, eq_self, decide_true, decide_false, ti_b, b2i_t, b2i_f, aK, aL, aF, aSz, aBin, aDiv, aB, aAt, aNd, aArgs, aCall, aIf, bCmp, bZ, bAnd, bOr, bNot, bTT, bIf, ab_ok, ab_no, ab_none, ab_ab, ab_ite, aok_ok, aok_none, og_ok, og_none, vbin_i, vb8_i, vput_i, vI_i, cmp_i, hold_eq, hold_ne, hold_lt, hold_ge, hold_gt, hold_le, b2i_0, ss_b, ss_ite, oAdd, oSub, oMul, Option.bind_some, A0of, va_up, List.length_nil, List.length_cons, List.getD_cons_zero, List.getD_cons_succ, List.getD_nil, if_true, if_false, Bool.not_not, Bool.not_true, Bool.not_false, Bool.false_eq_true, reduceIte, Nat.reduceSub, Nat.reduceAdd, Nat.reduceEqDiff, run_skip]
        refine x_headB hap hq (by omega) (hP'.at (Nat.le_refl _) ha (hj.l h1) (by rw [h2]; omega)) h1 fun nm ts a j'' r1 r2 r3 r4 r5 r6 r7 => ?_
        exact hK' nm ts a j'' r1 r2 r3 r4 r5 r6 (by omega)
      · dsimp only
        simp only [d10, eq_self, decide_true, decide_false, ti_b, b2i_t, b2i_f, aK, aL, aF, aSz, aBin, aDiv, aB, aAt, aNd, aArgs, aCall, aIf, bCmp, bZ, bAnd, bOr, bNot, bTT, bIf, ab_ok, ab_no, ab_none, ab_ab, ab_ite, aok_ok, aok_none, og_ok, og_none, vbin_i, vb8_i, vput_i, vI_i, cmp_i, hold_eq, hold_ne, hold_lt, hold_ge, hold_gt, hold_le, b2i_0, ss_b, ss_ite, oAdd, oSub, oMul, Option.bind_some, A0of, va_up, List.length_nil, List.length_cons, List.getD_cons_zero, List.getD_cons_succ, List.getD_nil, if_true, if_false, Bool.not_not, Bool.not_true, Bool.not_false, Bool.false_eq_true, reduceIte, Nat.reduceSub, Nat.reduceAdd, Nat.reduceEqDiff, run_seq, run_ex]
        rw [kE_ab, ab_ab]
        have hl : fS ((o, row ++ [tv (tPair true one two (nI ps.1))]), gg) = fS ((o, row), gg) + 1 := by simp [fS]; omega
        have hnn : max c 4 + 1 ≤ n + 1 := by omega
        rw [pb_pb]
        have hbd : fS ((o, row), gg) + 1 + j'.nn + 8 * (n + 1 + 1) + 100 * (Tn tk - a) ≤ 29000 := by omega
        refine x_arguments0 hap hq hnn (hP'.at (by omega) h2 (hj.l h3) (by rw [hl]; exact hbd)) h3 fun ts a2 j2 r1 r2 r3 r4 r5 => ?_
        dsimp only at r1 r5
        rw [run_ret0, ab_ok, pret_pb]
        have := hK' nm (tPair true one two (nI ps.1) :: ts) a2 j2 (by omega) r2 (by simp) r3 (r4.trans h4) h4' (by simp; omega)
        simpa using this
end XHF
