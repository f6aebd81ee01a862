/-! X: functions of many variables -/
theorem nI_inj {a b : Nat} (ha : a < 2 ^ 31) (hb : b < 2 ^ 31) (h : nI a = nI b) : a = b := by
  have := congrArg Int32.toInt h
  rw [nI_toInt ha, nI_toInt hb] at this
  omega
theorem frs_len (v n : Nat) : (frs v n).length = n := by
  induction n generalizing v with
  | zero => rfl
  | succ n ih => simp [frs, ih]
theorem frs_snoc (v n : Nat) : frs v (n + 1) = frs v n ++ [nI (8192 + v + n)] := by
  induction n generalizing v with
  | zero => rfl
  | succ n ih => rw [frs, ih (v + 1), frs, show 8192 + (v + 1) + n = 8192 + v + (n + 1) by omega]; rfl
theorem tLams_app (p : Int32) (l : List Int32) (x : Int32) (e : TR) : tLams p (l ++ [x]) e = tLams p l (tLam (tVar x p) e p) := by
  induction l with
  | nil => rfl
  | cons y l ih => simp [tLams, ih]
section XCU
variable {tk : TK} {ps ps' : PS} {f f1 f' : FX} {j j1 j' : AS} {m n k k' : Nat} {A A' : AS} {LV : AL}
theorem x_cur1 {o many v : Nat} {g : (Nat × List V) × (Nat × List V)} {p : Int32} {w1 w5 : V} (hn : 2 ≤ n) (hm : many < 2 ^ 30) (hfr : ps.2.2.1 < 2 ^ 30) (hv : v + many ≤ ps.2.2.1) (N : Nat) : ∀ (i : Nat) (row : List V) (j : AS) (LV : AL) (K B C : KT), many - i ≤ N → i ≤ many → o + row.length + (many - i) < ALM → j.nn + (many - i) ≤ ALM → LV 1 = w1 → LV 2 = .int (nI many) → LV 3 = .int p → LV 4 = .int (nI v) → LV 5 = w5 → LV 6 = .int (nI i) →
    ∃ LV' : AL, (LV' 1 = w1 ∧ LV' 2 = .int (nI many) ∧ LV' 3 = .int p ∧ LV' 4 = .int (nI v) ∧ LV' 5 = w5) ∧ rn (zWh (N + 1) (bCmp .lt (aL 6) (aL 2)) (zAdd 13 (aCall (aX n) 65 [(aBin oAdd (aBin oAdd (aK 8192) (aL 4)) (aL 6)), (aL 3)])) (zInc 6 1) LV (stX tk ps ((o, row), g) j)) K B C = K LV' (stX tk ps ((o, row ++ ((frs (v + i) (many - i)).map fun x => tName x p).map tv), g) (mkN j (many - i))) := by
  have stop : ∀ (N i : Nat) (row : List V) (j : AS) (LV : AL) (K B C : KT), many ≤ i → i < 2 ^ 30 → LV 2 = .int (nI many) → LV 6 = .int (nI i) → rn (zWh (N + 1) (bCmp .lt (aL 6) (aL 2)) (zAdd 13 (aCall (aX n) 65 [(aBin oAdd (aBin oAdd (aK 8192) (aL 4)) (aL 6)), (aL 3)])) (zInc 6 1) LV (stX tk ps ((o, row), g) j)) K B C = K LV (stX tk ps ((o, row), g) j) := by
    intro N i row j LV K B C h1 h2 l2 l6
    have e : decide (nI i < nI many) = false := decide_eq_false (nI_nlt h1 (by omega))
    rw [rn_wh]
    simp only [d10, eq_self, decide_true, decide_false, ti_b, b2i_t, b2i_f, aK, aL, aF, aSz, aBin, aDiv, aB, aAt, aNd, aArgs, aCall, aIf, bCmp, bZ, bAnd, bOr, bNot, bTT, bIf, ab_ok, ab_no, ab_none, ab_ab, ab_ite, aok_ok, aok_none, og_ok, og_none, vbin_i, vb8_i, vput_i, vI_i, cmp_i, hold_eq, hold_ne, hold_lt, hold_ge, hold_gt, hold_le, b2i_0, ss_b, ss_ite, oAdd, oSub, oMul, Option.bind_some, A0of, va_up, List.length_nil, List.length_cons, List.getD_cons_zero, List.getD_cons_succ, List.getD_nil, if_true, if_false, Bool.not_not, Bool.not_true, Bool.not_false, Bool.false_eq_true, reduceIte, Nat.reduceSub, Nat.reduceAdd, Nat.reduceEqDiff, l2, l6, e]
  induction N with
  | zero =>
    intro i row j LV K B C h1 h2 h3 h4 l1 l2 l3 l4 l5 l6
    refine ⟨LV, ⟨l1, l2, l3, l4, l5⟩, ?_⟩
    have e0 : many - i = 0 := by omega
    rw [stop 0 i row j LV K B C (by omega) (by omega) l2 l6, e0]
    simp [frs]
    rfl
  | succ N ih =>
    intro i row j LV K B C h1 h2 h3 h4 l1 l2 l3 l4 l5 l6
    by_cases hi : i < many
    · have e : decide (nI i < nI many) = true := decide_eq_true (nI_lt hi (by omega))
      have hA : ALM = 30000 := rfl
      have e8 : (8192 : Int32) + nI v + nI i = nI (8192 + (v + i)) := by
        rw [show (8192 : Int32) = nI 8192 from rfl, nI_add, nI_add, Nat.add_assoc]
      have en := x_name (tk := tk) (ps := ps) (f := ((o, row), g)) (j := j) (m := n) (i := nI (8192 + (v + i))) (p := p) hn (by omega) (fr_ok (by omega) hfr)
      have xx := xa13 (tk := tk) (ps := ps) (f := ((o, row), g)) (j := mkN j 1) (v := tv (tName (nI (8192 + (v + i))) p)) (by dsimp only; omega)
      obtain ⟨LV', r1, r2⟩ := ih (i + 1) (row ++ [tv (tName (nI (8192 + (v + i))) p)]) (mkN j 1) (va_up LV 6 (.int (nI (i + 1)))) K B C (by omega) (by omega) (by simp; omega) (by rw [mkN_nn]; omega) l1 l2 l3 l4 l5 rfl
      refine ⟨LV', r1, ?_⟩
      rw [rn_wh]
      simp only [amth_eq, rn_seq, rn_if, rn_set, rn_inc, rn_ex, rn_ret, rn_ret0, rn_skip, rn_putF, rn_opF, rn_opU, rn_putS, rn_opS, rn_at, rn_atB, rn_add, rn_swap, rn_sw, rn_brk, rn_cnt, fin_ok, fin_ab, fin_ite, fin_og, fin_b, fin_0, fin_1, fin_v, fin_no, fin_none, d10, eq_self, decide_true, decide_false, ti_b, b2i_t, b2i_f, aK, aL, aF, aSz, aBin, aDiv, aB, aAt, aNd, aArgs, aCall, aIf, bCmp, bZ, bAnd, bOr, bNot, bTT, bIf, ab_ok, ab_no, ab_none, ab_ab, ab_ite, aok_ok, aok_none, og_ok, og_none, vbin_i, vb8_i, vput_i, vI_i, cmp_i, hold_eq, hold_ne, hold_lt, hold_ge, hold_gt, hold_le, b2i_0, ss_b, ss_ite, oAdd, oSub, oMul, Option.bind_some, A0of, va_up, List.length_nil, List.length_cons, List.getD_cons_zero, List.getD_cons_succ, List.getD_nil, if_true, if_false, Bool.not_not, Bool.not_true, Bool.not_false, Bool.false_eq_true, reduceIte, Nat.reduceSub, Nat.reduceAdd, Nat.reduceEqDiff, l2, l3, l4, l6, e, e8, en, xx, nI_1]
      rw [r2, mkN_mkN, show many - i = (many - (i + 1)) + 1 by omega, frs, Nat.add_assoc v i 1, Nat.add_comm 1]
      simp
    · refine ⟨LV, ⟨l1, l2, l3, l4, l5⟩, ?_⟩
      have e0 : many - i = 0 := by omega
      rw [stop (N + 1) i row j LV K B C (by omega) (by omega) l2 l6, e0]
      simp [frs]
      rfl
theorem x_cur2 {many v : Nat} {p : Int32} (hn : 3 ≤ n) (hfr : ps.2.2.1 < 2 ^ 30) (hv : v + many ≤ ps.2.2.1) (N : Nat) : ∀ (i : Nat) (e : TR) (j : AS) (LV : AL) (K B C : KT), i ≤ N → i ≤ many → j.nn + 4 * i ≤ ALM → LV 3 = .int p → LV 4 = .int (nI v) → LV 7 = tv e → LV 8 = .int (nI i - 1) →
    ∃ LV' : AL, LV' 7 = tv (tLams p (frs v i) e) ∧ rn (zWh (N + 1) (bZ .ge (aL 8)) (zSet 7 (aCall (aX n) 68 [(aCall (aX n) 50 [(aBin oAdd (aBin oAdd (aK 8192) (aL 4)) (aL 8)), (aL 3)]), (aL 7), (aL 3)])) (zInc 8 (-1)) LV (stX tk ps f j)) K B C = K LV' (stX tk ps f (mkN j (4 * i))) := by
  have stop : ∀ (N : Nat) (e : TR) (j : AS) (LV : AL) (K B C : KT), LV 8 = .int (nI 0 - 1) → rn (zWh (N + 1) (bZ .ge (aL 8)) (zSet 7 (aCall (aX n) 68 [(aCall (aX n) 50 [(aBin oAdd (aBin oAdd (aK 8192) (aL 4)) (aL 8)), (aL 3)]), (aL 7), (aL 3)])) (zInc 8 (-1)) LV (stX tk ps f j)) K B C = K LV (stX tk ps f j) := by
    intro N e j LV K B C l8
    have e1 : decide ((0 : Int32) ≤ nI 0 - 1) = false := by decide
    rw [rn_wh]
    simp only [d10, eq_self, decide_true, decide_false, ti_b, b2i_t, b2i_f, aK, aL, aF, aSz, aBin, aDiv, aB, aAt, aNd, aArgs, aCall, aIf, bCmp, bZ, bAnd, bOr, bNot, bTT, bIf, ab_ok, ab_no, ab_none, ab_ab, ab_ite, aok_ok, aok_none, og_ok, og_none, vbin_i, vb8_i, vput_i, vI_i, cmp_i, hold_eq, hold_ne, hold_lt, hold_ge, hold_gt, hold_le, b2i_0, ss_b, ss_ite, oAdd, oSub, oMul, Option.bind_some, A0of, va_up, List.length_nil, List.length_cons, List.getD_cons_zero, List.getD_cons_succ, List.getD_nil, if_true, if_false, Bool.not_not, Bool.not_true, Bool.not_false, Bool.false_eq_true, reduceIte, Nat.reduceSub, Nat.reduceAdd, Nat.reduceEqDiff, l8, e1]
  induction N with
  | zero =>
    intro i e j LV K B C h1 h2 h3 l3 l4 l7 l8
    have : i = 0 := by omega
    subst this
    exact ⟨LV, l7, stop 0 e j LV K B C l8⟩
  | succ N ih =>
    intro i e j LV K B C h1 h2 h3 l3 l4 l7 l8
    cases i with
    | zero => exact ⟨LV, l7, stop (N + 1) e j LV K B C l8⟩
    | succ i =>
      have hA : ALM = 30000 := rfl
      rw [nI_pred] at l8
      have e1 : decide ((0 : Int32) ≤ nI i) = true := decide_eq_true (by
        have : ¬ nI i < nI 0 := nI_nlt (Nat.zero_le _) (by omega)
        exact Int32.not_lt.mp this)
      have e8 : (8192 : Int32) + nI v + nI i = nI (8192 + (v + i)) := by
        rw [show (8192 : Int32) = nI 8192 from rfl, nI_add, nI_add, Nat.add_assoc]
      have ev := x_variable (tk := tk) (ps := ps) (f := f) (j := j) (m := n) (i := nI (8192 + (v + i))) (p := p) (by omega) (by omega) (fr_ok (by omega) hfr)
      have el := x_lambda (tk := tk) (ps := ps) (f := f) (j := mkN j 1) (m := n) (a := tVar (nI (8192 + (v + i))) p) (e := e) (p := p) hn (by rw [mkN_nn]; omega)
      obtain ⟨LV', r1, r2⟩ := ih i (tLam (tVar (nI (8192 + (v + i))) p) e p) (mkN (mkN j 1) 3) (va_up (va_up LV 7 (tv (tLam (tVar (nI (8192 + (v + i))) p) e p))) 8 (.int (nI i - 1))) K B C (by omega) (by omega) (by simp only [mkN_nn]; omega) l3 l4 rfl rfl
      refine ⟨LV', by rw [r1, frs_snoc, tLams_app, Nat.add_assoc], ?_⟩
      have em : nI i + -1 = nI i - 1 := (Int32.sub_eq_add_neg _ _).symm
      rw [rn_wh]
      simp only [amth_eq, rn_seq, rn_if, rn_set, rn_inc, rn_ex, rn_ret, rn_ret0, rn_skip, rn_putF, rn_opF, rn_opU, rn_putS, rn_opS, rn_at, rn_atB, rn_add, rn_swap, rn_sw, rn_brk, rn_cnt, fin_ok, fin_ab, fin_ite, fin_og, fin_b, fin_0, fin_1, fin_v, fin_no, fin_none, d10, eq_self, decide_true, decide_false, ti_b, b2i_t, b2i_f, aK, aL, aF, aSz, aBin, aDiv, aB, aAt, aNd, aArgs, aCall, aIf, bCmp, bZ, bAnd, bOr, bNot, bTT, bIf, ab_ok, ab_no, ab_none, ab_ab, ab_ite, aok_ok, aok_none, og_ok, og_none, vbin_i, vb8_i, vput_i, vI_i, cmp_i, hold_eq, hold_ne, hold_lt, hold_ge, hold_gt, hold_le, b2i_0, ss_b, ss_ite, oAdd, oSub, oMul, Option.bind_some, A0of, va_up, List.length_nil, List.length_cons, List.getD_cons_zero, List.getD_cons_succ, List.getD_nil, if_true, if_false, Bool.not_not, Bool.not_true, Bool.not_false, Bool.false_eq_true, reduceIte, Nat.reduceSub, Nat.reduceAdd, Nat.reduceEqDiff, l3, l4, l7, l8, e1, e8, ev, el, em]
      rw [r2, mkN_mkN, mkN_mkN, show 1 + (3 + 4 * i) = 4 * (i + 1) by omega]
theorem x_curried (hm : 5 ≤ m) {l : List TR} {many : Nat} {p : Int32} (h1 : many < 20000) (hfr : ps.2.2.1 + many < 2 ^ 30) (hr : f.1.1 + f.1.2.length + many < ALM) (hnn : j.nn + 7 * many + 3 ≤ ALM) :
    ∃ cc, cc ≤ 7 * many + 3 ∧ aX m 89 [tLi l, .int (nI many), .int p] (stX tk ps f j) = some (some (tv (tCur (tLi l) many ps.2.2.1 p)), stX tk (ps.1, ps.2.1, ps.2.2.1 + many, ps.2.2.2) f (mkN j cc)) := by
  obtain ⟨n, rfl⟩ := suc1 (m := m) (by omega)
  obtain ⟨⟨o, base⟩, g⟩ := f
  dsimp only at hr
  have hA : ALM = 30000 := rfl
  obtain ⟨L1, ⟨a1, a2, a3, a4, a5⟩, a6⟩ := x_cur1 (tk := tk) (ps := (ps.1, ps.2.1, ps.2.2.1 + many, ps.2.2.2)) (o := o) (many := many) (v := ps.2.2.1) (g := g) (p := p) (w1 := tLi l) (w5 := .int (nI (o + base.length))) (n := n) (by omega) (by omega) hfr (Nat.le_refl _) 99999 0 base j (va_up (va_up (va_up (A0of true [tLi l, .int (nI many), .int p]) 4 (.int (nI ps.2.2.1))) 5 (.int (nI (o + base.length)))) 6 (.int 0)) (run [zSeq (zSet 6 (aIf (bCmp .eq (aL 2) (aK 1)) (aPop 13) (aCall (aX n) 47 [(aL 5), (aK 13), (aK 12), (aL 3)]))) (zSeq (zSet 7 (aCall (aX n) 59 [(aCall (aX n) 57 [(aL 1), (aL 3)]), (aL 6), (aL 3)])) (zSeq (zSeq (zSet 8 (aBin oSub (aL 2) (aK 1))) (zWh LN (bZ .ge (aL 8)) (zSet 7 (aCall (aX n) 68 [(aCall (aX n) 50 [(aBin oAdd (aBin oAdd (aK 8192) (aL 4)) (aL 8)), (aL 3)]), (aL 7), (aL 3)])) (zInc 8 (-1)))) (zRet (aL 7))))] nk) nk nk (by omega) (by omega) (by omega) (by omega) rfl rfl rfl rfl rfl rfl
  simp only [Nat.add_zero, Nat.sub_zero] at a6
  generalize hl : (frs ps.2.2.1 many).map (fun x => tName x p) = nms at a6
  have hlen : nms.length = many := by rw [← hl, List.length_map, frs_len]
  obtain ⟨c1, q1, q2⟩ : ∃ c1, c1 ≤ 2 * many + 1 ∧ (aIf (bCmp .eq (aL 2) (aK 1)) (aPop 13) (aCall (aX n) 47 [(aL 5), (aK 13), (aK 12), (aL 3)])) L1 (stX tk (ps.1, ps.2.1, ps.2.2.1 + many, ps.2.2.2) ((o, base ++ nms.map tv), g) (mkN j many)) = some (some (tv (tMany nms p)), stX tk (ps.1, ps.2.1, ps.2.2.1 + many, ps.2.2.2) ((o, base), g) (mkN (mkN j many) c1)) := by
    by_cases hm1 : many = 1
    · refine ⟨0, by omega, ?_⟩
      match nms, hlen with
      | [t], _ =>
        have d1 : decide (nI many = 1) = true := by rw [hm1]; decide
        simp only [d10, eq_self, decide_true, decide_false, ti_b, b2i_t, b2i_f, aK, aL, aF, aSz, aBin, aDiv, aB, aAt, aNd, aArgs, aCall, aIf, bCmp, bZ, bAnd, bOr, bNot, bTT, bIf, ab_ok, ab_no, ab_none, ab_ab, ab_ite, aok_ok, aok_none, og_ok, og_none, vbin_i, vb8_i, vput_i, vI_i, cmp_i, hold_eq, hold_ne, hold_lt, hold_ge, hold_gt, hold_le, b2i_0, ss_b, ss_ite, oAdd, oSub, oMul, Option.bind_some, A0of, va_up, List.length_nil, List.length_cons, List.getD_cons_zero, List.getD_cons_succ, List.getD_nil, if_true, if_false, Bool.not_not, Bool.not_true, Bool.not_false, Bool.false_eq_true, reduceIte, Nat.reduceSub, Nat.reduceAdd, Nat.reduceEqDiff, a2, d1]
        rw [pop_ok (l := base) (v := tv t) (by simp only [sX_f3, sX_f17, sX_f18, sX_f21, sX_R0, sX_R1, sX_R2, sX_R10, sX_R11, sX_R12, sX_R13, sX_R14, sX_R15, sX_o0, sX_o1, sX_o2, sX_o10, sX_o11, sX_o12, sX_o13, sX_o14, sX_o15, sX_nn, sX_fl]; rfl)]
        simp only [sX_f3, sX_f17, sX_f18, sX_f21, sX_R0, sX_R1, sX_R2, sX_R10, sX_R11, sX_R12, sX_R13, sX_R14, sX_R15, sX_o0, sX_o1, sX_o2, sX_o10, sX_o11, sX_o12, sX_o13, sX_o14, sX_o15, sX_nn, sX_fl, sX_p3, sX_p17, sX_p18, sX_p21, sX_p13, sX_p14, sX_p15, sX_p10, sX_p11, sX_p12, nI_1, nI_pred]
        rfl
      | [], h => simp at h; omega
      | _ :: _ :: _, h => simp at h; omega
    · refine ⟨2 * many + 1, Nat.le_refl _, ?_⟩
      have d1 : decide (nI many = 1) = false := decide_eq_false fun h => hm1 (nI_inj (by omega) (by omega) h)
      have et := x_tuple (tk := tk) (ps := (ps.1, ps.2.1, ps.2.2.1 + many, ps.2.2.2)) (j := mkN j many) (m := n) (o := o) (base := base) (items := nms) (fk := 13) (k := 12) (p := p) (g := g) (by omega) (by decide) (by decide) (by omega) (by omega) (by rw [mkN_nn]; omega)
      simp only [d10, eq_self, decide_true, decide_false, ti_b, b2i_t, b2i_f, aK, aL, aF, aSz, aBin, aDiv, aB, aAt, aNd, aArgs, aCall, aIf, bCmp, bZ, bAnd, bOr, bNot, bTT, bIf, ab_ok, ab_no, ab_none, ab_ab, ab_ite, aok_ok, aok_none, og_ok, og_none, vbin_i, vb8_i, vput_i, vI_i, cmp_i, hold_eq, hold_ne, hold_lt, hold_ge, hold_gt, hold_le, b2i_0, ss_b, ss_ite, oAdd, oSub, oMul, Option.bind_some, A0of, va_up, List.length_nil, List.length_cons, List.getD_cons_zero, List.getD_cons_succ, List.getD_nil, if_true, if_false, Bool.not_not, Bool.not_true, Bool.not_false, Bool.false_eq_true, reduceIte, Nat.reduceSub, Nat.reduceAdd, Nat.reduceEqDiff, a2, a3, a5, d1, et, hlen]
      have : tMany nms p = tTup 13 12 nms p := by
        unfold tMany
        split
        · next h => simp at hlen; omega
        · rfl
      rw [this]
  have ef := x_function (tk := tk) (ps := (ps.1, ps.2.1, ps.2.2.1 + many, ps.2.2.2)) (f := ((o, base), g)) (j := mkN (mkN j many) c1) (m := n) (l := l) (p := p) (by omega) (by simp only [mkN_nn]; omega)
  have ea := x_apply (tk := tk) (ps := (ps.1, ps.2.1, ps.2.2.1 + many, ps.2.2.2)) (f := ((o, base), g)) (j := mkN (mkN (mkN j many) c1) 1) (m := n) (a := tFn (tLi l) p) (b := tMany nms p) (p := p) (by omega) (by simp only [mkN_nn]; omega)
  obtain ⟨L2, b1, b2⟩ := x_cur2 (tk := tk) (ps := (ps.1, ps.2.1, ps.2.2.1 + many, ps.2.2.2)) (f := ((o, base), g)) (many := many) (v := ps.2.2.1) (p := p) (n := n) (by omega) hfr (Nat.le_refl _) 99999 many (tApp (tFn (tLi l) p) (tMany nms p) p) (mkN (mkN (mkN (mkN j many) c1) 1) 1) (va_up (va_up (va_up L1 6 (tv (tMany nms p))) 7 (tv (tApp (tFn (tLi l) p) (tMany nms p) p))) 8 (.int (nI many - 1))) (run [zRet (aL 7)] nk) nk nk (by omega) (Nat.le_refl _) (by simp only [mkN_nn]; omega) a3 a4 rfl rfl
  refine ⟨many + c1 + 1 + 1 + 4 * many, by omega, ?_⟩
  have h18 : oAdd (nI ps.2.2.1) (nI many) = nI (ps.2.2.1 + many) := nI_add _ _
  have hle : (nI ps.2.2.1).toInt ≤ (nI (ps.2.2.1 + many)).toInt := by
    rw [nI_toInt (by omega), nI_toInt (by omega)]
    omega
  have hU : vputU (stX tk ps ((o, base), g) j) 18 (.int (nI (ps.2.2.1 + many))) = some (stX tk (ps.1, ps.2.1, ps.2.2.1 + many, ps.2.2.2) ((o, base), g) j) := by
    unfold vputU
    dsimp only
    rw [sX_f18, if_pos hle, sX_p18]
  simp only [eX_curried, zX_curried, amth_run, run_seq, fin_ok, run_set, aF, kS_ok, run_opU, kOU, aL, ab_ok, A0of, va_up, List.length_nil, List.length_cons, List.getD_cons_zero, List.getD_cons_succ, List.getD_nil, if_true, if_false, Bool.not_not, Bool.not_true, Bool.not_false, Bool.false_eq_true, reduceIte, Nat.reduceSub, Nat.reduceAdd, Nat.reduceEqDiff, sX_f3, sX_f17, sX_f18, sX_f21, sX_R0, sX_R1, sX_R2, sX_R10, sX_R11, sX_R12, sX_R13, sX_R14, sX_R15, sX_o0, sX_o1, sX_o2, sX_o10, sX_o11, sX_o12, sX_o13, sX_o14, sX_o15, sX_nn, sX_fl, vbin_i, h18, Option.bind_some, hU, og_ok, aSz]
  have e8 : ∀ (L : AL) (s : AS), L 2 = .int (nI many) → aBin oSub (aL 2) (aK 1) L s = some (some (.int (nI many - 1)), s) := by
    intro L s h
    simp only [d10, eq_self, decide_true, decide_false, ti_b, b2i_t, b2i_f, aK, aL, aF, aSz, aBin, aDiv, aB, aAt, aNd, aArgs, aCall, aIf, bCmp, bZ, bAnd, bOr, bNot, bTT, bIf, ab_ok, ab_no, ab_none, ab_ab, ab_ite, aok_ok, aok_none, og_ok, og_none, vbin_i, vb8_i, vput_i, vI_i, cmp_i, hold_eq, hold_ne, hold_lt, hold_ge, hold_gt, hold_le, b2i_0, ss_b, ss_ite, oAdd, oSub, oMul, Option.bind_some, A0of, va_up, List.length_nil, List.length_cons, List.getD_cons_zero, List.getD_cons_succ, List.getD_nil, if_true, if_false, Bool.not_not, Bool.not_true, Bool.not_false, Bool.false_eq_true, reduceIte, Nat.reduceSub, Nat.reduceAdd, Nat.reduceEqDiff, h]
  rw [aK_e, kS_ok, run_rn, show LN = 99999 + 1 from rfl, a6, run_seq, run_set, q2, kS_ok, run_seq, run_set]
  have e7 : aCall (aX n) 59 [(aCall (aX n) 57 [(aL 1), (aL 3)]), (aL 6), (aL 3)] (va_up L1 6 (tv (tMany nms p))) (stX tk (ps.1, ps.2.1, ps.2.2.1 + many, ps.2.2.2) ((o, base), g) (mkN (mkN j many) c1)) = some (some (tv (tApp (tFn (tLi l) p) (tMany nms p) p)), stX tk (ps.1, ps.2.1, ps.2.2.1 + many, ps.2.2.2) ((o, base), g) (mkN (mkN (mkN (mkN j many) c1) 1) 1)) := by
    simp only [d10, eq_self, decide_true, decide_false, ti_b, b2i_t, b2i_f, aK, aL, aF, aSz, aBin, aDiv, aB, aAt, aNd, aArgs, aCall, aIf, bCmp, bZ, bAnd, bOr, bNot, bTT, bIf, ab_ok, ab_no, ab_none, ab_ab, ab_ite, aok_ok, aok_none, og_ok, og_none, vbin_i, vb8_i, vput_i, vI_i, cmp_i, hold_eq, hold_ne, hold_lt, hold_ge, hold_gt, hold_le, b2i_0, ss_b, ss_ite, oAdd, oSub, oMul, Option.bind_some, A0of, va_up, List.length_nil, List.length_cons, List.getD_cons_zero, List.getD_cons_succ, List.getD_nil, if_true, if_false, Bool.not_not, Bool.not_true, Bool.not_false, Bool.false_eq_true, reduceIte, Nat.reduceSub, Nat.reduceAdd, Nat.reduceEqDiff, a1, a3, ef, ea]
  rw [e7, kS_ok, run_seq, run_seq, run_set, e8 _ _ (by simpa [va_up] using a2), kS_ok, run_rn, show LN = 99999 + 1 from rfl, b2, run_ret, aL_e, b1, tCur, hl, mkN_mkN, mkN_mkN, mkN_mkN, mkN_mkN, show many + (c1 + (1 + (1 + 4 * many))) = many + c1 + 1 + 1 + 4 * many by omega]
end XCU
