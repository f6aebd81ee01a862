/-! X: operators -/
section XIN1
variable {tk : TK} {ps ps' : PS} {f f' : FX} {j j' : AS} {m n k k' : Nat} {A : AS} {W : Bool}
def ovs (l : ODS) : List V := l.reverse.flatMap fun q => [tv q.1, Term.int (nI q.2)]
def prs (l : OPS) : List V := l.reverse.flatMap fun o => [Term.int o.1, Term.int (nI o.2.1), Term.int o.2.2]
theorem ovs_cons (q : TR × Nat) (l : ODS) : ovs (q :: l) = ovs l ++ [tv q.1, Term.int (nI q.2)] := by simp [ovs]
theorem prs_cons (o : Int32 × Nat × Int32) (l : OPS) : prs (o :: l) = prs l ++ [Term.int o.1, Term.int (nI o.2.1), Term.int o.2.2] := by simp [prs]
theorem ovs_len (l : ODS) : (ovs l).length = 2 * l.length := by
  induction l with
  | nil => rfl
  | cons a l ih => rw [ovs_cons]; simp [ih]; omega
theorem prs_len (l : OPS) : (prs l).length = 3 * l.length := by
  induction l with
  | nil => rfl
  | cons a l ih => rw [prs_cons]; simp [ih]; omega
theorem xp15 {L : AL} {a b : Nat × List V} {o : Nat} {l : List V} {v : V} : aPop 15 L (stX tk ps (a, b, (o, l ++ [v])) j) = some (some v, stX tk ps (a, b, (o, l)) j) := by
  rw [pop_ok (l := l) (v := v) rfl]
  simp only [sX_f3, sX_f17, sX_f18, sX_f21, sX_R0, sX_R1, sX_R2, sX_R10, sX_R11, sX_R12, sX_R13, sX_R14, sX_R15, sX_o0, sX_o1, sX_o2, sX_o10, sX_o11, sX_o12, sX_o13, sX_o14, sX_o15, sX_nn, sX_fl, sX_p3, sX_p17, sX_p18, sX_p21, sX_p13, sX_p14, sX_p15, sX_p10, sX_p11, sX_p12, nI_1, nI_pred]
theorem xp14 {L : AL} {a b : Nat × List V} {o : Nat} {l : List V} {v : V} : aPop 14 L (stX tk ps (a, (o, l ++ [v]), b) j) = some (some v, stX tk ps (a, (o, l), b) j) := by
  rw [pop_ok (l := l) (v := v) rfl]
  simp only [sX_f3, sX_f17, sX_f18, sX_f21, sX_R0, sX_R1, sX_R2, sX_R10, sX_R11, sX_R12, sX_R13, sX_R14, sX_R15, sX_o0, sX_o1, sX_o2, sX_o10, sX_o11, sX_o12, sX_o13, sX_o14, sX_o15, sX_nn, sX_fl, sX_p3, sX_p17, sX_p18, sX_p21, sX_p13, sX_p14, sX_p15, sX_p10, sX_p11, sX_p12, nI_1, nI_pred]
theorem xa14 {v : V} (h : f.2.1.1 + f.2.1.2.length < ALM) : vadd (stX tk ps f j) 14 v = some (stX tk ps (f.1, (f.2.1.1, f.2.1.2 ++ [v]), f.2.2) j) := by
  rw [vadd_ok (by simp only [sX_f3, sX_f17, sX_f18, sX_f21, sX_R0, sX_R1, sX_R2, sX_R10, sX_R11, sX_R12, sX_R13, sX_R14, sX_R15, sX_o0, sX_o1, sX_o2, sX_o10, sX_o11, sX_o12, sX_o13, sX_o14, sX_o15, sX_nn, sX_fl]; exact h)]
  simp only [sX_f3, sX_f17, sX_f18, sX_f21, sX_R0, sX_R1, sX_R2, sX_R10, sX_R11, sX_R12, sX_R13, sX_R14, sX_R15, sX_o0, sX_o1, sX_o2, sX_o10, sX_o11, sX_o12, sX_o13, sX_o14, sX_o15, sX_nn, sX_fl, sX_p3, sX_p17, sX_p18, sX_p21, sX_p13, sX_p14, sX_p15, sX_p10, sX_p11, sX_p12, nI_1, nI_pred]
theorem xa15 {v : V} (h : f.2.2.1 + f.2.2.2.length < ALM) : vadd (stX tk ps f j) 15 v = some (stX tk ps (f.1, f.2.1, (f.2.2.1, f.2.2.2 ++ [v])) j) := by
  rw [vadd_ok (by simp only [sX_f3, sX_f17, sX_f18, sX_f21, sX_R0, sX_R1, sX_R2, sX_R10, sX_R11, sX_R12, sX_R13, sX_R14, sX_R15, sX_o0, sX_o1, sX_o2, sX_o10, sX_o11, sX_o12, sX_o13, sX_o14, sX_o15, sX_nn, sX_fl]; exact h)]
  simp only [sX_f3, sX_f17, sX_f18, sX_f21, sX_R0, sX_R1, sX_R2, sX_R10, sX_R11, sX_R12, sX_R13, sX_R14, sX_R15, sX_o0, sX_o1, sX_o2, sX_o10, sX_o11, sX_o12, sX_o13, sX_o14, sX_o15, sX_nn, sX_fl, sX_p3, sX_p17, sX_p18, sX_p21, sX_p13, sX_p14, sX_p15, sX_p10, sX_p11, sX_p12, nI_1, nI_pred]
theorem aix_end {o : Nat} {l r : List V} {v : V} {i : Int32} (hi : i = nI (o + l.length)) (h : o + l.length < 2 ^ 31) : aix o (l ++ v :: r) (.int i) = some v := by
  rw [hi, aix_nI h (by omega), Nat.add_sub_cancel_left, List.getElem?_append_right (Nat.le_refl _), Nat.sub_self]
  rfl
theorem x_reduce (hm : 5 ≤ m) {fp : Nat × List V} {o4 o5 : Nat} {B4 B5 : List V} {q : Bool} {one two : TR} {b1 b2 : Nat} {r : ODS} {op : Int32} {pl : Nat} {fx : Int32} {ops : OPS} (hp : fp.1 + fp.2.length + 2 < ALM) (h4 : o4 + B4.length + 2 * r.length + 4 < ALM) (hn : j.nn + 7 ≤ ALM) (hop : q = false → op.toInt < 8192 + (nI ps.2.2.1).toInt) :
    aX m 82 [.int (b2i q)] (stX tk ps (fp, (o4, B4 ++ ovs ((two, b2) :: (one, b1) :: r)), (o5, B5 ++ prs ((op, pl, fx) :: ops))) j) = some (some (.int 0), stX tk ps (fp, (o4, B4 ++ ovs (red1 q (op, pl, fx) ((two, b2) :: (one, b1) :: r))), (o5, B5 ++ prs ops)) (mkN j (if q then 6 else 7))) := by
  obtain ⟨n, rfl⟩ := suc1 (m := m) (by omega)
  have hA : ALM = 30000 := rfl
  have e5 : B5 ++ prs ((op, pl, fx) :: ops) = B5 ++ prs ops ++ [Term.int op] ++ [Term.int (nI pl)] ++ [Term.int fx] := by simp [prs_cons]
  have e4 : B4 ++ ovs ((two, b2) :: (one, b1) :: r) = (B4 ++ ovs r) ++ [tv one, Term.int (nI b1), tv two, Term.int (nI b2)] := by simp [ovs_cons]
  have l4 : (B4 ++ ovs r).length = B4.length + 2 * r.length := by rw [List.length_append, ovs_len]
  have s4 : o4 + ((B4 ++ ovs r) ++ [tv one, Term.int (nI b1), tv two, Term.int (nI b2)]).length = o4 + (B4 ++ ovs r).length + 4 := by simp; omega
  have t1 : nI (o4 + (B4 ++ ovs r).length + 4) - 3 = nI (o4 + ((B4 ++ ovs r) ++ [tv one]).length) := by
    rw [show (3 : Int32) = nI 3 from rfl, nI_sub (by omega)]
    congr 1
    simp
    omega
  have t2 : nI (o4 + (B4 ++ ovs r).length + 4) - 2 = nI (o4 + ((B4 ++ ovs r) ++ [tv one, Term.int (nI b1)]).length) := by
    rw [show (2 : Int32) = nI 2 from rfl, nI_sub (by omega)]
    congr 1
    simp
    omega
  have x1 : aix o4 ((B4 ++ ovs r) ++ [tv one, Term.int (nI b1), tv two, Term.int (nI b2)]) (.int (nI (o4 + ((B4 ++ ovs r) ++ [tv one]).length))) = some (.int (nI b1)) := by
    rw [show (B4 ++ ovs r) ++ [tv one, Term.int (nI b1), tv two, Term.int (nI b2)] = ((B4 ++ ovs r) ++ [tv one]) ++ Term.int (nI b1) :: [tv two, Term.int (nI b2)] by simp]
    exact aix_end rfl (by simp [ovs_len]; omega)
  have x2 : aix o4 ((B4 ++ ovs r) ++ [tv one, Term.int (nI b1), tv two, Term.int (nI b2)]) (.int (nI (o4 + ((B4 ++ ovs r) ++ [tv one, Term.int (nI b1)]).length))) = some (tv two) := by
    rw [show (B4 ++ ovs r) ++ [tv one, Term.int (nI b1), tv two, Term.int (nI b2)] = ((B4 ++ ovs r) ++ [tv one, Term.int (nI b1)]) ++ tv two :: [Term.int (nI b2)] by simp]
    exact aix_end rfl (by simp [ovs_len]; omega)
  have x3 : vsize (stX tk ps (fp, (o4, (B4 ++ ovs r) ++ [tv one, Term.int (nI b1), tv two, Term.int (nI b2)]), (o5, B5 ++ prs ops)) j) 14 (.int (nI (o4 + ((B4 ++ ovs r) ++ [tv one, Term.int (nI b1)]).length))) = some (stX tk ps (fp, (o4, (B4 ++ ovs r) ++ [tv one, Term.int (nI b1)]), (o5, B5 ++ prs ops)) j) := by
    rw [vsize_nI (by simp [ovs_len]; omega) (by simp only [sX_f3, sX_f17, sX_f18, sX_f21, sX_R0, sX_R1, sX_R2, sX_R10, sX_R11, sX_R12, sX_R13, sX_R14, sX_R15, sX_o0, sX_o1, sX_o2, sX_o10, sX_o11, sX_o12, sX_o13, sX_o14, sX_o15, sX_nn, sX_fl]; omega) (by simp only [sX_f3, sX_f17, sX_f18, sX_f21, sX_R0, sX_R1, sX_R2, sX_R10, sX_R11, sX_R12, sX_R13, sX_R14, sX_R15, sX_o0, sX_o1, sX_o2, sX_o10, sX_o11, sX_o12, sX_o13, sX_o14, sX_o15, sX_nn, sX_fl]; simp)]
    simp only [sX_f3, sX_f17, sX_f18, sX_f21, sX_R0, sX_R1, sX_R2, sX_R10, sX_R11, sX_R12, sX_R13, sX_R14, sX_R15, sX_o0, sX_o1, sX_o2, sX_o10, sX_o11, sX_o12, sX_o13, sX_o14, sX_o15, sX_nn, sX_fl, sX_p3, sX_p17, sX_p18, sX_p21, sX_p13, sX_p14, sX_p15, sX_p10, sX_p11, sX_p12, nI_1, nI_pred]
    congr 5
    rw [Nat.add_sub_cancel_left, show (B4 ++ ovs r) ++ [tv one, Term.int (nI b1), tv two, Term.int (nI b2)] = ((B4 ++ ovs r) ++ [tv one, Term.int (nI b1)]) ++ [tv two, Term.int (nI b2)] by simp, List.take_left']
    rfl
  have t4 : nI (o4 + ((B4 ++ ovs r) ++ [tv one, Term.int (nI b1)]).length) - 2 = nI (o4 + (B4 ++ ovs r).length) := by
    rw [show (2 : Int32) = nI 2 from rfl, nI_sub (by simp; omega)]
    congr 1
    simp
    omega
  have x4 : aix o4 ((B4 ++ ovs r) ++ [tv one, Term.int (nI b1)]) (.int (nI (o4 + (B4 ++ ovs r).length))) = some (tv one) := aix_end rfl (by omega)
  have x5 : ∀ w j, vset (stX tk ps (fp, (o4, (B4 ++ ovs r) ++ [tv one, Term.int (nI b1)]), (o5, B5 ++ prs ops)) j) 14 (.int (nI (o4 + (B4 ++ ovs r).length))) w = some (stX tk ps (fp, (o4, (B4 ++ ovs r) ++ [w, Term.int (nI b1)]), (o5, B5 ++ prs ops)) j) := by
    intro w j
    rw [vset_nI (by omega) (by simp only [sX_f3, sX_f17, sX_f18, sX_f21, sX_R0, sX_R1, sX_R2, sX_R10, sX_R11, sX_R12, sX_R13, sX_R14, sX_R15, sX_o0, sX_o1, sX_o2, sX_o10, sX_o11, sX_o12, sX_o13, sX_o14, sX_o15, sX_nn, sX_fl]; omega) (by simp only [sX_f3, sX_f17, sX_f18, sX_f21, sX_R0, sX_R1, sX_R2, sX_R10, sX_R11, sX_R12, sX_R13, sX_R14, sX_R15, sX_o0, sX_o1, sX_o2, sX_o10, sX_o11, sX_o12, sX_o13, sX_o14, sX_o15, sX_nn, sX_fl]; simp)]
    simp only [sX_f3, sX_f17, sX_f18, sX_f21, sX_R0, sX_R1, sX_R2, sX_R10, sX_R11, sX_R12, sX_R13, sX_R14, sX_R15, sX_o0, sX_o1, sX_o2, sX_o10, sX_o11, sX_o12, sX_o13, sX_o14, sX_o15, sX_nn, sX_fl, sX_p3, sX_p17, sX_p18, sX_p21, sX_p13, sX_p14, sX_p15, sX_p10, sX_p11, sX_p12, nI_1, nI_pred]
    congr 5
    rw [Nat.add_sub_cancel_left, List.set_append_right _ _ (Nat.le_refl _), Nat.sub_self]
    rfl
  rw [e5, e4]
  cases q with
  | true =>
    have ep : aX n 71 [tv one, tv two, .int 1, .int (nI b1)] (stX tk ps (fp, (o4, (B4 ++ ovs r) ++ [tv one, Term.int (nI b1)]), (o5, B5 ++ prs ops)) j) = some (some (tv (tPair true one two (nI b1))), stX tk ps (fp, (o4, (B4 ++ ovs r) ++ [tv one, Term.int (nI b1)]), (o5, B5 ++ prs ops)) (mkN j 5)) := x_pair (q := true) (by omega) hp (by omega)
    simp (maxSteps := 2000000) (disch := first | assumption | omega | (simp only [pr0_1, pr1_1, pr2_1, pr0_10, pr1_10, pr2_10, pr0_11, pr1_11, pr2_11, pr0_12, pr1_12, pr2_12, pr0_13, pr1_13, pr2_13, pr0_14, pr1_14, pr2_14, pr0_15, pr1_15, pr2_15, pr0_16, pr1_16, pr2_16, pr0_17, pr1_17, pr2_17, pr0_18, pr1_18, pr2_18, pr0_19, pr1_19, pr2_19, pr0_20, pr1_20, pr2_20, pr0_30, pr1_30, pr2_30, pr0_31, pr1_31, pr2_31, pr0_32, pr1_32, pr2_32, pr0_33, pr1_33, pr2_33, pr0_34, pr1_34, pr2_34, pr0_35, pr1_35, pr2_35, pr0_36, pr1_36, pr2_36, pr0_37, pr1_37, pr2_37, pr0_50, pr1_50, pr2_50, pr0_51, pr1_51, pr2_51, pr0_52, pr1_52, pr2_52, pr0_53, pr1_53, pr2_53, pr0_54, pr1_54, pr2_54, pr0_70, pr1_70, pr2_70, pr0_71, pr1_71, pr2_71, pr0_72, pr1_72, pr2_72, pr0_73, pr1_73, pr2_73, pr0_74, pr1_74, pr2_74, pr0_75, pr1_75, pr2_75, pr0_76, pr1_76, pr2_76, pr0_77, pr1_77, pr2_77, pr0_78, pr1_78, pr2_78, pr0_79, pr1_79, pr2_79, pr0_80, pr1_80, pr2_80, pr0_81, pr1_81, pr2_81, pr0_82, pr1_82, pr2_82, pr0_83, pr1_83, pr2_83, pr0_84, pr1_84, pr2_84, okF_tv, okF_no, okF_n1, okF_i, okLi, okOv, ok33] <;> assumption) | decide | (simp only [mkN_nn, mkN_fl, sX_fl, sX_nn, List.length_append, List.length_cons, List.length_nil, List.length_map]; omega) | (dsimp only; omega)) only [eX_reduce, zX_reduce, amth_run, run_nil, run_seq, run_skip, run_ret0, run_ret, run_set, run_inc, run_ex, run_if, run_putF, run_opF, run_opU, run_putS, run_opS, run_add, run_at, run_atB, run_sw, kS_ok, kS_no, kE_ok, kE_no, kI_t, kI_f, kI_no, kPF_ok, kOF_ok, kPS_ok, kOS_ok, kAD_ok, kAD_no, kT1_ok, kT2_ok, kB1_ok, kB2_ok, kSw_ok, fin_ok, fin_b, fin_0, fin_1, fin_v, fin_no, fin_none, d10, eq_self, decide_true, decide_false, ti_b, b2i_t, b2i_f, aK, aL, aF, aSz, aBin, aDiv, aB, aAt, aNd, aArgs, aCall, aIf, bCmp, bZ, bAnd, bOr, bNot, bTT, bIf, ab_ok, ab_no, ab_none, ab_ab, ab_ite, aok_ok, aok_none, og_ok, og_none, vbin_i, vb8_i, vput_i, vI_i, cmp_i, hold_eq, hold_ne, hold_lt, hold_ge, hold_gt, hold_le, b2i_0, ss_b, ss_ite, oAdd, oSub, oMul, Option.bind_some, A0of, va_up, List.length_nil, List.length_cons, List.getD_cons_zero, List.getD_cons_succ, List.getD_nil, if_true, if_false, Bool.not_not, Bool.not_true, Bool.not_false, Bool.false_eq_true, reduceIte, Nat.reduceSub, Nat.reduceAdd, Nat.reduceEqDiff, sX_f3, sX_f17, sX_f18, sX_f21, sX_R0, sX_R1, sX_R2, sX_R10, sX_R11, sX_R12, sX_R13, sX_R14, sX_R15, sX_o0, sX_o1, sX_o2, sX_o10, sX_o11, sX_o12, sX_o13, sX_o14, sX_o15, sX_nn, sX_fl, xp15, s4, t1, x1, t2, x2, x3, t4, x4, ep, x_make, mkN_mkN, x5]
    have e6 : (B4 ++ ovs r) ++ [tv (35, Term.int op, no, tv (tPair true one two (nI b1)), nI b1), Term.int (nI b1)] = B4 ++ ovs (red1 true (op, pl, fx) ((two, b2) :: (one, b1) :: r)) := by simp [red1, ovs_cons]
    rw [e6]
  | false =>
    have hop := hop rfl
    have ep : aX n 71 [tv one, tv two, .int 0, .int (nI b1)] (stX tk ps (fp, (o4, (B4 ++ ovs r) ++ [tv one, Term.int (nI b1)]), (o5, B5 ++ prs ops)) j) = some (some (tv (tPair false one two (nI b1))), stX tk ps (fp, (o4, (B4 ++ ovs r) ++ [tv one, Term.int (nI b1)]), (o5, B5 ++ prs ops)) (mkN j 5)) := x_pair (q := false) (by omega) hp (by omega)
    simp (maxSteps := 2000000) (disch := first | assumption | omega | (simp only [pr0_1, pr1_1, pr2_1, pr0_10, pr1_10, pr2_10, pr0_11, pr1_11, pr2_11, pr0_12, pr1_12, pr2_12, pr0_13, pr1_13, pr2_13, pr0_14, pr1_14, pr2_14, pr0_15, pr1_15, pr2_15, pr0_16, pr1_16, pr2_16, pr0_17, pr1_17, pr2_17, pr0_18, pr1_18, pr2_18, pr0_19, pr1_19, pr2_19, pr0_20, pr1_20, pr2_20, pr0_30, pr1_30, pr2_30, pr0_31, pr1_31, pr2_31, pr0_32, pr1_32, pr2_32, pr0_33, pr1_33, pr2_33, pr0_34, pr1_34, pr2_34, pr0_35, pr1_35, pr2_35, pr0_36, pr1_36, pr2_36, pr0_37, pr1_37, pr2_37, pr0_50, pr1_50, pr2_50, pr0_51, pr1_51, pr2_51, pr0_52, pr1_52, pr2_52, pr0_53, pr1_53, pr2_53, pr0_54, pr1_54, pr2_54, pr0_70, pr1_70, pr2_70, pr0_71, pr1_71, pr2_71, pr0_72, pr1_72, pr2_72, pr0_73, pr1_73, pr2_73, pr0_74, pr1_74, pr2_74, pr0_75, pr1_75, pr2_75, pr0_76, pr1_76, pr2_76, pr0_77, pr1_77, pr2_77, pr0_78, pr1_78, pr2_78, pr0_79, pr1_79, pr2_79, pr0_80, pr1_80, pr2_80, pr0_81, pr1_81, pr2_81, pr0_82, pr1_82, pr2_82, pr0_83, pr1_83, pr2_83, pr0_84, pr1_84, pr2_84, okF_tv, okF_no, okF_n1, okF_i, okLi, okOv, ok33] <;> assumption) | decide | (simp only [mkN_nn, mkN_fl, sX_fl, sX_nn, List.length_append, List.length_cons, List.length_nil, List.length_map]; omega) | (dsimp only; omega)) only [eX_reduce, zX_reduce, amth_run, run_nil, run_seq, run_skip, run_ret0, run_ret, run_set, run_inc, run_ex, run_if, run_putF, run_opF, run_opU, run_putS, run_opS, run_add, run_at, run_atB, run_sw, kS_ok, kS_no, kE_ok, kE_no, kI_t, kI_f, kI_no, kPF_ok, kOF_ok, kPS_ok, kOS_ok, kAD_ok, kAD_no, kT1_ok, kT2_ok, kB1_ok, kB2_ok, kSw_ok, fin_ok, fin_b, fin_0, fin_1, fin_v, fin_no, fin_none, d10, eq_self, decide_true, decide_false, ti_b, b2i_t, b2i_f, aK, aL, aF, aSz, aBin, aDiv, aB, aAt, aNd, aArgs, aCall, aIf, bCmp, bZ, bAnd, bOr, bNot, bTT, bIf, ab_ok, ab_no, ab_none, ab_ab, ab_ite, aok_ok, aok_none, og_ok, og_none, vbin_i, vb8_i, vput_i, vI_i, cmp_i, hold_eq, hold_ne, hold_lt, hold_ge, hold_gt, hold_le, b2i_0, ss_b, ss_ite, oAdd, oSub, oMul, Option.bind_some, A0of, va_up, List.length_nil, List.length_cons, List.getD_cons_zero, List.getD_cons_succ, List.getD_nil, if_true, if_false, Bool.not_not, Bool.not_true, Bool.not_false, Bool.false_eq_true, reduceIte, Nat.reduceSub, Nat.reduceAdd, Nat.reduceEqDiff, sX_f3, sX_f17, sX_f18, sX_f21, sX_R0, sX_R1, sX_R2, sX_R10, sX_R11, sX_R12, sX_R13, sX_R14, sX_R15, sX_o0, sX_o1, sX_o2, sX_o10, sX_o11, sX_o12, sX_o13, sX_o14, sX_o15, sX_nn, sX_fl, xp15, s4, t1, x1, t2, x2, x3, t4, x4, ep, x_name, x_apply, mkN_mkN, x5]
    have e6 : (B4 ++ ovs r) ++ [tv (tApp (tName op (nI pl)) (tPair false one two (nI b1)) (nI b1)), Term.int (nI b1)] = B4 ++ ovs (red1 false (op, pl, fx) ((two, b2) :: (one, b1) :: r)) := by simp [red1, ovs_cons]
    rw [e6]
theorem x_isFirst (hm : 3 ≤ m) {a b : Nat × List V} {o5 : Nat} {B5 : List V} {op : Int32} {pl : Nat} {mine fx : Int32} {ops : OPS} (hf : 0 < j.fl) (h5 : o5 + B5.length + 3 * ops.length + 3 < ALM) :
    aX m 81 [.int fx] (stX tk ps (a, b, (o5, B5 ++ prs ((op, pl, mine) :: ops))) j) = if (decide ((mine - 1) / 2 = (fx - 1) / 2) && !decide (mine = fx)) = true then some (none, ftX (stX tk ps (a, b, (o5, B5 ++ prs ((op, pl, mine) :: ops))) j) 4) else some (some (.int (b2i (isFst mine fx))), stX tk ps (a, b, (o5, B5 ++ prs ((op, pl, mine) :: ops))) j) := by
  obtain ⟨n, rfl⟩ := suc1 (m := m) (by omega)
  have hA : ALM = 30000 := rfl
  have hf2 : 0 < (stX tk ps (a, b, (o5, B5 ++ prs ((op, pl, mine) :: ops))) j).fl := hf
  have e5 : B5 ++ prs ((op, pl, mine) :: ops) = (B5 ++ prs ops ++ [Term.int op, Term.int (nI pl)]) ++ Term.int mine :: [] := by simp [prs_cons]
  have t1 : nI (o5 + (B5 ++ prs ((op, pl, mine) :: ops)).length) - 1 = nI (o5 + (B5 ++ prs ops ++ [Term.int op, Term.int (nI pl)]).length) := by
    rw [nI_sub1 (by simp [prs_len]; omega)]
    congr 1
    simp [prs_len]
    omega
  have x1 : aix o5 (B5 ++ prs ((op, pl, mine) :: ops)) (.int (nI (o5 + (B5 ++ prs ops ++ [Term.int op, Term.int (nI pl)]).length))) = some (.int mine) := by
    rw [e5]
    exact aix_end rfl (by simp [prs_len]; omega)
  have n2 : ¬ (2 : Int32) = 0 := by decide
  have vd : ∀ (o : Int32 → Int32 → Int32) (x : Int32), vdiv o (.int x) (.int 2) = some (.int (o x 2)) := fun o x => by unfold vdiv; dsimp only; rw [if_neg n2]
  have r2 : ∀ x : Int32, oRem x 2 = x - x / 2 * 2 := fun x => rfl
  unfold isFst
  by_cases h1 : (mine - 1) / 2 = (fx - 1) / 2
  · by_cases h2 : mine = fx
    · simp (disch := first | assumption | omega | (simp only [pr0_1, pr1_1, pr2_1, pr0_10, pr1_10, pr2_10, pr0_11, pr1_11, pr2_11, pr0_12, pr1_12, pr2_12, pr0_13, pr1_13, pr2_13, pr0_14, pr1_14, pr2_14, pr0_15, pr1_15, pr2_15, pr0_16, pr1_16, pr2_16, pr0_17, pr1_17, pr2_17, pr0_18, pr1_18, pr2_18, pr0_19, pr1_19, pr2_19, pr0_20, pr1_20, pr2_20, pr0_30, pr1_30, pr2_30, pr0_31, pr1_31, pr2_31, pr0_32, pr1_32, pr2_32, pr0_33, pr1_33, pr2_33, pr0_34, pr1_34, pr2_34, pr0_35, pr1_35, pr2_35, pr0_36, pr1_36, pr2_36, pr0_37, pr1_37, pr2_37, pr0_50, pr1_50, pr2_50, pr0_51, pr1_51, pr2_51, pr0_52, pr1_52, pr2_52, pr0_53, pr1_53, pr2_53, pr0_54, pr1_54, pr2_54, pr0_70, pr1_70, pr2_70, pr0_71, pr1_71, pr2_71, pr0_72, pr1_72, pr2_72, pr0_73, pr1_73, pr2_73, pr0_74, pr1_74, pr2_74, pr0_75, pr1_75, pr2_75, pr0_76, pr1_76, pr2_76, pr0_77, pr1_77, pr2_77, pr0_78, pr1_78, pr2_78, pr0_79, pr1_79, pr2_79, pr0_80, pr1_80, pr2_80, pr0_81, pr1_81, pr2_81, pr0_82, pr1_82, pr2_82, pr0_83, pr1_83, pr2_83, pr0_84, pr1_84, pr2_84, okF_tv, okF_no, okF_n1, okF_i, okLi, okOv, ok33] <;> assumption) | decide | (simp only [mkN_nn, mkN_fl, sX_fl, sX_nn, List.length_append, List.length_cons, List.length_nil, List.length_map]; omega) | (dsimp only; omega)) only [eX_isFirst, zX_isFirst, amth_run, run_nil, run_seq, run_skip, run_ret0, run_ret, run_set, run_inc, run_ex, run_if, run_putF, run_opF, run_opU, run_putS, run_opS, run_add, run_at, run_atB, run_sw, kS_ok, kS_no, kE_ok, kE_no, kI_t, kI_f, kI_no, kPF_ok, kOF_ok, kPS_ok, kOS_ok, kAD_ok, kAD_no, kT1_ok, kT2_ok, kB1_ok, kB2_ok, kSw_ok, fin_ok, fin_b, fin_0, fin_1, fin_v, fin_no, fin_none, d10, eq_self, decide_true, decide_false, ti_b, b2i_t, b2i_f, aK, aL, aF, aSz, aBin, aDiv, aB, aAt, aNd, aArgs, aCall, aIf, bCmp, bZ, bAnd, bOr, bNot, bTT, bIf, ab_ok, ab_no, ab_none, ab_ab, ab_ite, aok_ok, aok_none, og_ok, og_none, vbin_i, vb8_i, vput_i, vI_i, cmp_i, hold_eq, hold_ne, hold_lt, hold_ge, hold_gt, hold_le, b2i_0, ss_b, ss_ite, oAdd, oSub, oMul, Option.bind_some, A0of, va_up, List.length_nil, List.length_cons, List.getD_cons_zero, List.getD_cons_succ, List.getD_nil, if_true, if_false, Bool.not_not, Bool.not_true, Bool.not_false, Bool.false_eq_true, reduceIte, Nat.reduceSub, Nat.reduceAdd, Nat.reduceEqDiff, sX_f3, sX_f17, sX_f18, sX_f21, sX_R0, sX_R1, sX_R2, sX_R10, sX_R11, sX_R12, sX_R13, sX_R14, sX_R15, sX_o0, sX_o1, sX_o2, sX_o10, sX_o11, sX_o12, sX_o13, sX_o14, sX_o15, sX_nn, sX_fl, t1, x1, vd, oDiv, r2, decide_eq_true h1, decide_eq_true h2, x_must1, Bool.true_and, Bool.and_false]
      cases decide ((fx - 1) / 2 < (mine - 1) / 2) <;> simp only [d10, eq_self, decide_true, decide_false, ti_b, b2i_t, b2i_f, aK, aL, aF, aSz, aBin, aDiv, aB, aAt, aNd, aArgs, aCall, aIf, bCmp, bZ, bAnd, bOr, bNot, bTT, bIf, ab_ok, ab_no, ab_none, ab_ab, ab_ite, aok_ok, aok_none, og_ok, og_none, vbin_i, vb8_i, vput_i, vI_i, cmp_i, hold_eq, hold_ne, hold_lt, hold_ge, hold_gt, hold_le, b2i_0, ss_b, ss_ite, oAdd, oSub, oMul, Option.bind_some, A0of, va_up, List.length_nil, List.length_cons, List.getD_cons_zero, List.getD_cons_succ, List.getD_nil, if_true, if_false, Bool.not_not, Bool.not_true, Bool.not_false, Bool.false_eq_true, reduceIte, Nat.reduceSub, Nat.reduceAdd, Nat.reduceEqDiff, amth_run, run_nil, run_seq, run_skip, run_ret0, run_ret, run_set, run_inc, run_ex, run_if, run_putF, run_opF, run_opU, run_putS, run_opS, run_add, run_at, run_atB, run_sw, kS_ok, kS_no, kE_ok, kE_no, kI_t, kI_f, kI_no, kPF_ok, kOF_ok, kPS_ok, kOS_ok, kAD_ok, kAD_no, kT1_ok, kT2_ok, kB1_ok, kB2_ok, kSw_ok, fin_ok, fin_b, fin_0, fin_1, fin_v, fin_no, fin_none, Bool.true_or, Bool.false_or, Bool.true_and]
    · simp (disch := first | assumption | omega | (simp only [pr0_1, pr1_1, pr2_1, pr0_10, pr1_10, pr2_10, pr0_11, pr1_11, pr2_11, pr0_12, pr1_12, pr2_12, pr0_13, pr1_13, pr2_13, pr0_14, pr1_14, pr2_14, pr0_15, pr1_15, pr2_15, pr0_16, pr1_16, pr2_16, pr0_17, pr1_17, pr2_17, pr0_18, pr1_18, pr2_18, pr0_19, pr1_19, pr2_19, pr0_20, pr1_20, pr2_20, pr0_30, pr1_30, pr2_30, pr0_31, pr1_31, pr2_31, pr0_32, pr1_32, pr2_32, pr0_33, pr1_33, pr2_33, pr0_34, pr1_34, pr2_34, pr0_35, pr1_35, pr2_35, pr0_36, pr1_36, pr2_36, pr0_37, pr1_37, pr2_37, pr0_50, pr1_50, pr2_50, pr0_51, pr1_51, pr2_51, pr0_52, pr1_52, pr2_52, pr0_53, pr1_53, pr2_53, pr0_54, pr1_54, pr2_54, pr0_70, pr1_70, pr2_70, pr0_71, pr1_71, pr2_71, pr0_72, pr1_72, pr2_72, pr0_73, pr1_73, pr2_73, pr0_74, pr1_74, pr2_74, pr0_75, pr1_75, pr2_75, pr0_76, pr1_76, pr2_76, pr0_77, pr1_77, pr2_77, pr0_78, pr1_78, pr2_78, pr0_79, pr1_79, pr2_79, pr0_80, pr1_80, pr2_80, pr0_81, pr1_81, pr2_81, pr0_82, pr1_82, pr2_82, pr0_83, pr1_83, pr2_83, pr0_84, pr1_84, pr2_84, okF_tv, okF_no, okF_n1, okF_i, okLi, okOv, ok33] <;> assumption) | decide | (simp only [mkN_nn, mkN_fl, sX_fl, sX_nn, List.length_append, List.length_cons, List.length_nil, List.length_map]; omega) | (dsimp only; omega)) only [eX_isFirst, zX_isFirst, amth_run, run_nil, run_seq, run_skip, run_ret0, run_ret, run_set, run_inc, run_ex, run_if, run_putF, run_opF, run_opU, run_putS, run_opS, run_add, run_at, run_atB, run_sw, kS_ok, kS_no, kE_ok, kE_no, kI_t, kI_f, kI_no, kPF_ok, kOF_ok, kPS_ok, kOS_ok, kAD_ok, kAD_no, kT1_ok, kT2_ok, kB1_ok, kB2_ok, kSw_ok, fin_ok, fin_b, fin_0, fin_1, fin_v, fin_no, fin_none, d10, eq_self, decide_true, decide_false, ti_b, b2i_t, b2i_f, aK, aL, aF, aSz, aBin, aDiv, aB, aAt, aNd, aArgs, aCall, aIf, bCmp, bZ, bAnd, bOr, bNot, bTT, bIf, ab_ok, ab_no, ab_none, ab_ab, ab_ite, aok_ok, aok_none, og_ok, og_none, vbin_i, vb8_i, vput_i, vI_i, cmp_i, hold_eq, hold_ne, hold_lt, hold_ge, hold_gt, hold_le, b2i_0, ss_b, ss_ite, oAdd, oSub, oMul, Option.bind_some, A0of, va_up, List.length_nil, List.length_cons, List.getD_cons_zero, List.getD_cons_succ, List.getD_nil, if_true, if_false, Bool.not_not, Bool.not_true, Bool.not_false, Bool.false_eq_true, reduceIte, Nat.reduceSub, Nat.reduceAdd, Nat.reduceEqDiff, sX_f3, sX_f17, sX_f18, sX_f21, sX_R0, sX_R1, sX_R2, sX_R10, sX_R11, sX_R12, sX_R13, sX_R14, sX_R15, sX_o0, sX_o1, sX_o2, sX_o10, sX_o11, sX_o12, sX_o13, sX_o14, sX_o15, sX_nn, sX_fl, t1, x1, vd, oDiv, r2, decide_eq_true h1, decide_eq_false h2, x_must0, Bool.true_and]
  · simp (disch := first | assumption | omega | (simp only [pr0_1, pr1_1, pr2_1, pr0_10, pr1_10, pr2_10, pr0_11, pr1_11, pr2_11, pr0_12, pr1_12, pr2_12, pr0_13, pr1_13, pr2_13, pr0_14, pr1_14, pr2_14, pr0_15, pr1_15, pr2_15, pr0_16, pr1_16, pr2_16, pr0_17, pr1_17, pr2_17, pr0_18, pr1_18, pr2_18, pr0_19, pr1_19, pr2_19, pr0_20, pr1_20, pr2_20, pr0_30, pr1_30, pr2_30, pr0_31, pr1_31, pr2_31, pr0_32, pr1_32, pr2_32, pr0_33, pr1_33, pr2_33, pr0_34, pr1_34, pr2_34, pr0_35, pr1_35, pr2_35, pr0_36, pr1_36, pr2_36, pr0_37, pr1_37, pr2_37, pr0_50, pr1_50, pr2_50, pr0_51, pr1_51, pr2_51, pr0_52, pr1_52, pr2_52, pr0_53, pr1_53, pr2_53, pr0_54, pr1_54, pr2_54, pr0_70, pr1_70, pr2_70, pr0_71, pr1_71, pr2_71, pr0_72, pr1_72, pr2_72, pr0_73, pr1_73, pr2_73, pr0_74, pr1_74, pr2_74, pr0_75, pr1_75, pr2_75, pr0_76, pr1_76, pr2_76, pr0_77, pr1_77, pr2_77, pr0_78, pr1_78, pr2_78, pr0_79, pr1_79, pr2_79, pr0_80, pr1_80, pr2_80, pr0_81, pr1_81, pr2_81, pr0_82, pr1_82, pr2_82, pr0_83, pr1_83, pr2_83, pr0_84, pr1_84, pr2_84, okF_tv, okF_no, okF_n1, okF_i, okLi, okOv, ok33] <;> assumption) | decide | (simp only [mkN_nn, mkN_fl, sX_fl, sX_nn, List.length_append, List.length_cons, List.length_nil, List.length_map]; omega) | (dsimp only; omega)) only [eX_isFirst, zX_isFirst, amth_run, run_nil, run_seq, run_skip, run_ret0, run_ret, run_set, run_inc, run_ex, run_if, run_putF, run_opF, run_opU, run_putS, run_opS, run_add, run_at, run_atB, run_sw, kS_ok, kS_no, kE_ok, kE_no, kI_t, kI_f, kI_no, kPF_ok, kOF_ok, kPS_ok, kOS_ok, kAD_ok, kAD_no, kT1_ok, kT2_ok, kB1_ok, kB2_ok, kSw_ok, fin_ok, fin_b, fin_0, fin_1, fin_v, fin_no, fin_none, d10, eq_self, decide_true, decide_false, ti_b, b2i_t, b2i_f, aK, aL, aF, aSz, aBin, aDiv, aB, aAt, aNd, aArgs, aCall, aIf, bCmp, bZ, bAnd, bOr, bNot, bTT, bIf, ab_ok, ab_no, ab_none, ab_ab, ab_ite, aok_ok, aok_none, og_ok, og_none, vbin_i, vb8_i, vput_i, vI_i, cmp_i, hold_eq, hold_ne, hold_lt, hold_ge, hold_gt, hold_le, b2i_0, ss_b, ss_ite, oAdd, oSub, oMul, Option.bind_some, A0of, va_up, List.length_nil, List.length_cons, List.getD_cons_zero, List.getD_cons_succ, List.getD_nil, if_true, if_false, Bool.not_not, Bool.not_true, Bool.not_false, Bool.false_eq_true, reduceIte, Nat.reduceSub, Nat.reduceAdd, Nat.reduceEqDiff, sX_f3, sX_f17, sX_f18, sX_f21, sX_R0, sX_R1, sX_R2, sX_R10, sX_R11, sX_R12, sX_R13, sX_R14, sX_R15, sX_o0, sX_o1, sX_o2, sX_o10, sX_o11, sX_o12, sX_o13, sX_o14, sX_o15, sX_nn, sX_fl, t1, x1, vd, oDiv, r2, decide_eq_false h1, x_must1, Bool.false_and]
    cases decide ((fx - 1) / 2 < (mine - 1) / 2) <;> simp only [d10, eq_self, decide_true, decide_false, ti_b, b2i_t, b2i_f, aK, aL, aF, aSz, aBin, aDiv, aB, aAt, aNd, aArgs, aCall, aIf, bCmp, bZ, bAnd, bOr, bNot, bTT, bIf, ab_ok, ab_no, ab_none, ab_ab, ab_ite, aok_ok, aok_none, og_ok, og_none, vbin_i, vb8_i, vput_i, vI_i, cmp_i, hold_eq, hold_ne, hold_lt, hold_ge, hold_gt, hold_le, b2i_0, ss_b, ss_ite, oAdd, oSub, oMul, Option.bind_some, A0of, va_up, List.length_nil, List.length_cons, List.getD_cons_zero, List.getD_cons_succ, List.getD_nil, if_true, if_false, Bool.not_not, Bool.not_true, Bool.not_false, Bool.false_eq_true, reduceIte, Nat.reduceSub, Nat.reduceAdd, Nat.reduceEqDiff, amth_run, run_nil, run_seq, run_skip, run_ret0, run_ret, run_set, run_inc, run_ex, run_if, run_putF, run_opF, run_opU, run_putS, run_opS, run_add, run_at, run_atB, run_sw, kS_ok, kS_no, kE_ok, kE_no, kI_t, kI_f, kI_no, kPF_ok, kOF_ok, kPS_ok, kOS_ok, kAD_ok, kAD_no, kT1_ok, kT2_ok, kB1_ok, kB2_ok, kSw_ok, fin_ok, fin_b, fin_0, fin_1, fin_v, fin_no, fin_none, Bool.true_or, Bool.false_or, Bool.false_and]
/-- operators that bind first -/
theorem x_reds_loop (hm : 5 ≤ m) {fp : Nat × List V} {o4 o5 : Nat} {B4 B5 : List V} {q : Bool} {fx op : Int32} (hp : fp.1 + fp.2.length + 2 < ALM) (hx : aix 0 (ints ps.2.2.2.1) (.int op) = some (.int fx)) (N : Nat) :
    ∀ (ops : OPS) (l : ODS) (j : AS) (LV : AL), ops.length ≤ N → l.length = ops.length + 1 → o4 + B4.length + 2 * l.length + 4 < ALM → o5 + B5.length + 3 * ops.length + 3 < ALM → 0 < j.fl → j.nn + 7 * ops.length ≤ ALM → (q = false → ∀ o ∈ ops, o.1.toInt < 8192 + (nI ps.2.2.1).toInt) → LV 1 = .int (b2i q) → LV 2 = .int (nI (o5 + B5.length)) → LV 4 = .int op →
    ∀ (K B C : KT), (reds q fx ops l = none → ∃ f1 j1, je W j j1 ∧ 0 < j1.fl ∧ rn (zWh (N + 1) (bAnd (bCmp .gt (aSz 15) (aL 2)) (bZ .ne (aCall (aX m) 81 [(aAt 10 (aL 4))]))) (zEx (aCall (aX m) 82 [(aL 1)])) zSkip LV (stX tk ps (fp, (o4, B4 ++ ovs l), (o5, B5 ++ prs ops)) j)) K B C = some (none, ftX (stX tk ps f1 j1) 4)) ∧
      (∀ ops' l', reds q fx ops l = some (ops', l') → ∃ c, c + 7 * ops'.length ≤ 7 * ops.length ∧ l'.length = ops'.length + 1 ∧ ops'.length ≤ ops.length ∧ (∀ o ∈ ops', o ∈ ops) ∧ rn (zWh (N + 1) (bAnd (bCmp .gt (aSz 15) (aL 2)) (bZ .ne (aCall (aX m) 81 [(aAt 10 (aL 4))]))) (zEx (aCall (aX m) 82 [(aL 1)])) zSkip LV (stX tk ps (fp, (o4, B4 ++ ovs l), (o5, B5 ++ prs ops)) j)) K B C = K LV (stX tk ps (fp, (o4, B4 ++ ovs l'), (o5, B5 ++ prs ops')) (mkN j c))) := by
  induction N with
  | zero =>
    intro ops l j LV h1 h2 h3 h4 h5 h6 h7 h8 h9 h10 K B C
    have : ops = [] := List.length_eq_zero_iff.mp (by omega)
    subst this
    refine ⟨fun e => by simp [reds] at e, fun ops' l' e => ?_⟩
    simp only [reds, Option.some.injEq, Prod.mk.injEq] at e
    obtain ⟨rfl, rfl⟩ := e
    refine ⟨0, by simp, h2, by simp, fun o ho => ho, ?_⟩
    rw [rn_wh]
    have e : decide (nI (o5 + B5.length) < nI (o5 + B5.length)) = false := decide_eq_false (nI_nlt (Nat.le_refl _) (by have : ALM = 30000 := rfl; omega))
    simp only [d10, eq_self, decide_true, decide_false, ti_b, b2i_t, b2i_f, aK, aL, aF, aSz, aBin, aDiv, aB, aAt, aNd, aArgs, aCall, aIf, bCmp, bZ, bAnd, bOr, bNot, bTT, bIf, ab_ok, ab_no, ab_none, ab_ab, ab_ite, aok_ok, aok_none, og_ok, og_none, vbin_i, vb8_i, vput_i, vI_i, cmp_i, hold_eq, hold_ne, hold_lt, hold_ge, hold_gt, hold_le, b2i_0, ss_b, ss_ite, oAdd, oSub, oMul, Option.bind_some, A0of, va_up, List.length_nil, List.length_cons, List.getD_cons_zero, List.getD_cons_succ, List.getD_nil, if_true, if_false, Bool.not_not, Bool.not_true, Bool.not_false, Bool.false_eq_true, reduceIte, Nat.reduceSub, Nat.reduceAdd, Nat.reduceEqDiff, sX_f3, sX_f17, sX_f18, sX_f21, sX_R0, sX_R1, sX_R2, sX_R10, sX_R11, sX_R12, sX_R13, sX_R14, sX_R15, sX_o0, sX_o1, sX_o2, sX_o10, sX_o11, sX_o12, sX_o13, sX_o14, sX_o15, sX_nn, sX_fl, h9, prs, List.reverse_nil, List.flatMap_nil, List.append_nil, e, mkN_0]
  | succ N ih =>
    intro ops l j LV h1 h2 h3 h4 h5 h6 h7 h8 h9 h10 K B C
    have hA : ALM = 30000 := rfl
    cases ops with
    | nil =>
      refine ⟨fun e => by simp [reds] at e, fun ops' l' e => ?_⟩
      simp only [reds, Option.some.injEq, Prod.mk.injEq] at e
      obtain ⟨rfl, rfl⟩ := e
      refine ⟨0, by simp, h2, by simp, fun o ho => ho, ?_⟩
      rw [rn_wh]
      have e : decide (nI (o5 + B5.length) < nI (o5 + B5.length)) = false := decide_eq_false (nI_nlt (Nat.le_refl _) (by omega))
      simp only [d10, eq_self, decide_true, decide_false, ti_b, b2i_t, b2i_f, aK, aL, aF, aSz, aBin, aDiv, aB, aAt, aNd, aArgs, aCall, aIf, bCmp, bZ, bAnd, bOr, bNot, bTT, bIf, ab_ok, ab_no, ab_none, ab_ab, ab_ite, aok_ok, aok_none, og_ok, og_none, vbin_i, vb8_i, vput_i, vI_i, cmp_i, hold_eq, hold_ne, hold_lt, hold_ge, hold_gt, hold_le, b2i_0, ss_b, ss_ite, oAdd, oSub, oMul, Option.bind_some, A0of, va_up, List.length_nil, List.length_cons, List.getD_cons_zero, List.getD_cons_succ, List.getD_nil, if_true, if_false, Bool.not_not, Bool.not_true, Bool.not_false, Bool.false_eq_true, reduceIte, Nat.reduceSub, Nat.reduceAdd, Nat.reduceEqDiff, sX_f3, sX_f17, sX_f18, sX_f21, sX_R0, sX_R1, sX_R2, sX_R10, sX_R11, sX_R12, sX_R13, sX_R14, sX_R15, sX_o0, sX_o1, sX_o2, sX_o10, sX_o11, sX_o12, sX_o13, sX_o14, sX_o15, sX_nn, sX_fl, h9, prs, List.reverse_nil, List.flatMap_nil, List.append_nil, e, mkN_0]
    | cons o ops =>
      obtain ⟨o1, pl, mine⟩ := o
      simp only [List.length_cons] at h1 h2 h4 h6
      have e : decide (nI (o5 + B5.length) < nI (o5 + (B5 ++ prs ((o1, pl, mine) :: ops)).length)) = true := by
        apply decide_eq_true
        apply nI_lt <;> simp [prs_len] <;> omega
      match l, h2 with
      | (two, b2) :: (one, b1) :: r, h2 =>
        simp only [List.length_cons] at h2 h3
        have efst := x_isFirst (tk := tk) (ps := ps) (j := j) (m := m) (by omega) (a := fp) (b := (o4, B4 ++ ovs ((two, b2) :: (one, b1) :: r))) (o5 := o5) (B5 := B5) (op := o1) (pl := pl) (mine := mine) (fx := fx) (ops := ops) h5 (by omega)
        have ered := x_reduce (tk := tk) (ps := ps) (j := j) (m := m) hm (fp := fp) (o4 := o4) (o5 := o5) (B4 := B4) (B5 := B5) (q := q) (one := one) (two := two) (b1 := b1) (b2 := b2) (r := r) (op := o1) (pl := pl) (fx := mine) (ops := ops) hp (by omega) (by omega) (fun hq => h7 hq (o1, pl, mine) List.mem_cons_self)
        have hlen : (red1 q (o1, pl, mine) ((two, b2) :: (one, b1) :: r)).length = ops.length + 1 := by simp [red1]; omega
        rw [rn_wh]
        cases hmix : (decide ((mine - 1) / 2 = (fx - 1) / 2) && !decide (mine = fx)) with
        | true =>
          rw [hmix] at efst
          refine ⟨fun _ => ⟨(fp, (o4, B4 ++ ovs ((two, b2) :: (one, b1) :: r)), (o5, B5 ++ prs ((o1, pl, mine) :: ops))), j, je.rf (W := W) j, h5, ?_⟩, fun ops' l' e' => by simp [reds, hmix] at e'⟩
          simp only [d10, eq_self, decide_true, decide_false, ti_b, b2i_t, b2i_f, aK, aL, aF, aSz, aBin, aDiv, aB, aAt, aNd, aArgs, aCall, aIf, bCmp, bZ, bAnd, bOr, bNot, bTT, bIf, ab_ok, ab_no, ab_none, ab_ab, ab_ite, aok_ok, aok_none, og_ok, og_none, vbin_i, vb8_i, vput_i, vI_i, cmp_i, hold_eq, hold_ne, hold_lt, hold_ge, hold_gt, hold_le, b2i_0, ss_b, ss_ite, oAdd, oSub, oMul, Option.bind_some, A0of, va_up, List.length_nil, List.length_cons, List.getD_cons_zero, List.getD_cons_succ, List.getD_nil, if_true, if_false, Bool.not_not, Bool.not_true, Bool.not_false, Bool.false_eq_true, reduceIte, Nat.reduceSub, Nat.reduceAdd, Nat.reduceEqDiff, sX_f3, sX_f17, sX_f18, sX_f21, sX_R0, sX_R1, sX_R2, sX_R10, sX_R11, sX_R12, sX_R13, sX_R14, sX_R15, sX_o0, sX_o1, sX_o2, sX_o10, sX_o11, sX_o12, sX_o13, sX_o14, sX_o15, sX_nn, sX_fl, h9, h10, e, hx, efst]
        | false =>
          rw [hmix] at efst
          cases hfst : isFst mine fx with
          | false =>
            rw [hfst] at efst
            refine ⟨fun e' => by simp [reds, hmix, hfst] at e', fun ops' l' e' => ?_⟩
            simp only [reds, hmix, hfst, Bool.false_eq_true, if_false, Option.some.injEq, Prod.mk.injEq] at e'
            obtain ⟨rfl, rfl⟩ := e'
            refine ⟨0, by simp, by simp; omega, by simp, fun o ho => ho, ?_⟩
            simp only [d10, eq_self, decide_true, decide_false, ti_b, b2i_t, b2i_f, aK, aL, aF, aSz, aBin, aDiv, aB, aAt, aNd, aArgs, aCall, aIf, bCmp, bZ, bAnd, bOr, bNot, bTT, bIf, ab_ok, ab_no, ab_none, ab_ab, ab_ite, aok_ok, aok_none, og_ok, og_none, vbin_i, vb8_i, vput_i, vI_i, cmp_i, hold_eq, hold_ne, hold_lt, hold_ge, hold_gt, hold_le, b2i_0, ss_b, ss_ite, oAdd, oSub, oMul, Option.bind_some, A0of, va_up, List.length_nil, List.length_cons, List.getD_cons_zero, List.getD_cons_succ, List.getD_nil, if_true, if_false, Bool.not_not, Bool.not_true, Bool.not_false, Bool.false_eq_true, reduceIte, Nat.reduceSub, Nat.reduceAdd, Nat.reduceEqDiff, sX_f3, sX_f17, sX_f18, sX_f21, sX_R0, sX_R1, sX_R2, sX_R10, sX_R11, sX_R12, sX_R13, sX_R14, sX_R15, sX_o0, sX_o1, sX_o2, sX_o10, sX_o11, sX_o12, sX_o13, sX_o14, sX_o15, sX_nn, sX_fl, h9, h10, e, hx, efst, mkN_0]
          | true =>
            rw [hfst] at efst
            have er : reds q fx ((o1, pl, mine) :: ops) ((two, b2) :: (one, b1) :: r) = reds q fx ops (red1 q (o1, pl, mine) ((two, b2) :: (one, b1) :: r)) := by simp [reds, hmix, hfst]
            rw [er]
            have h67 : (if q then 6 else 7) ≤ 7 := by split <;> decide
            obtain ⟨i1, i2⟩ := ih ops (red1 q (o1, pl, mine) ((two, b2) :: (one, b1) :: r)) (mkN j (if q then 6 else 7)) LV (by omega) hlen (by omega) (by omega) h5 (by rw [mkN_nn]; omega) (fun hq o ho => h7 hq o (List.mem_cons_of_mem _ ho)) h8 h9 h10 K B C
            simp only [d10, eq_self, decide_true, decide_false, ti_b, b2i_t, b2i_f, aK, aL, aF, aSz, aBin, aDiv, aB, aAt, aNd, aArgs, aCall, aIf, bCmp, bZ, bAnd, bOr, bNot, bTT, bIf, ab_ok, ab_no, ab_none, ab_ab, ab_ite, aok_ok, aok_none, og_ok, og_none, vbin_i, vb8_i, vput_i, vI_i, cmp_i, hold_eq, hold_ne, hold_lt, hold_ge, hold_gt, hold_le, b2i_0, ss_b, ss_ite, oAdd, oSub, oMul, Option.bind_some, A0of, va_up, List.length_nil, List.length_cons, List.getD_cons_zero, List.getD_cons_succ, List.getD_nil, if_true, if_false, Bool.not_not, Bool.not_true, Bool.not_false, Bool.false_eq_true, reduceIte, Nat.reduceSub, Nat.reduceAdd, Nat.reduceEqDiff, amth_eq, rn_seq, rn_if, rn_set, rn_inc, rn_ex, rn_ret, rn_ret0, rn_skip, rn_putF, rn_opF, rn_opU, rn_putS, rn_opS, rn_at, rn_atB, rn_add, rn_swap, rn_sw, rn_brk, rn_cnt, fin_ok, fin_ab, fin_ite, fin_og, fin_b, fin_0, fin_1, fin_v, fin_no, fin_none, sX_f3, sX_f17, sX_f18, sX_f21, sX_R0, sX_R1, sX_R2, sX_R10, sX_R11, sX_R12, sX_R13, sX_R14, sX_R15, sX_o0, sX_o1, sX_o2, sX_o10, sX_o11, sX_o12, sX_o13, sX_o14, sX_o15, sX_nn, sX_fl, h8, h9, h10, e, hx, efst, ered]
            refine ⟨fun e' => ?_, fun ops' l' e' => ?_⟩
            · obtain ⟨f1, j1, q1, q2, q3⟩ := i1 e'
              exact ⟨f1, j1, q1, q2, q3⟩
            · obtain ⟨c, q1, q2, q3, q4, q5⟩ := i2 ops' l' e'
              refine ⟨(if q then 6 else 7) + c, by omega, q2, by omega, fun o ho => List.mem_cons_of_mem _ (q4 o ho), ?_⟩
              rw [mkN_mkN] at q5
              exact q5
end XIN1
