/-! M: functions of many variables -/
section MNE
variable {tk : TK} {ps ps' : PS} {f f1 f' : FM} {j j1 j' : AS} {m n k k' : Nat} {A A' : AS} {LV : AL}
theorem frM_add (v i : Nat) : (100000 : Int32) + nI (v + 1) + nI i = frM (v + i) := by
  unfold frM
  rw [Int32.add_assoc, nI_add, show v + 1 + i = v + i + 1 by omega]
theorem m_cur1 {o many v : Nat} {q1 q2 : Nat} {q4 : FXS} {g : Nat × List V} {p : Int32} (hn : 2 ≤ n) (hm : many < 2 ^ 30) (hfr : v + many < 2 ^ 29) (N : Nat) : ∀ (i : Nat) (row : List V) (j : AS) (LV : AL) (K B C : KT), many - i ≤ N → i ≤ many → o + row.length + (many - i) < ALM → j.nn + (many - i) ≤ ALM → LV 2 = .int p → LV 4 = .int (nI many) → LV 7 = .int (nI i) →
    ∃ LV' : AL, (∀ k, k ≠ 7 → LV' k = LV k) ∧ rn (zWh (N + 1) (bCmp .lt (aL 7) (aL 4)) (zAdd 17 (aCall (aM n) 49 [(aCall (aM n) 61 []), (aL 2)])) (zInc 7 1) LV (stM (q1, q2, v + i, q4) ((o, row), g) j)) K B C = K LV' (stM (q1, q2, v + many, q4) ((o, row ++ ((frs (v + i) (many - i)).map fun x => tName x p).map tv), g) (mkN j (many - i))) := by
  have stop : ∀ (N i : Nat) (row : List V) (j : AS) (LV : AL) (K B C : KT), many ≤ i → i < 2 ^ 30 → LV 4 = .int (nI many) → LV 7 = .int (nI i) → rn (zWh (N + 1) (bCmp .lt (aL 7) (aL 4)) (zAdd 17 (aCall (aM n) 49 [(aCall (aM n) 61 []), (aL 2)])) (zInc 7 1) LV (stM (q1, q2, v + i, q4) ((o, row), g) j)) K B C = K LV (stM (q1, q2, v + i, q4) ((o, row), g) j) := by
    intro N i row j LV K B C h1 h2 l2 l6
    have e : decide (nI i < nI many) = false := decide_eq_false (nI_nlt h1 (by omega))
    rw [rn_wh]
    simp only [d10, eq_self, decide_true, decide_false, ti_b, b2i_t, b2i_f, aK, aL, aF, aSz, aBin, aDiv, aB, aAt, aNd, aArgs, aCall, aIf, bCmp, bZ, bAnd, bOr, bNot, bTT, bIf, ab_ok, ab_no, ab_none, ab_ab, ab_ite, aok_ok, aok_none, og_ok, og_none, vbin_i, vb8_i, vput_i, vI_i, cmp_i, hold_eq, hold_ne, hold_lt, hold_ge, hold_gt, hold_le, b2i_0, ss_b, ss_ite, oAdd, oSub, oMul, Option.bind_some, A0of, va_up, List.length_nil, List.length_cons, List.getD_cons_zero, List.getD_cons_succ, List.getD_nil, if_true, if_false, Bool.not_not, Bool.not_true, Bool.not_false, Bool.false_eq_true, reduceIte, Nat.reduceSub, Nat.reduceAdd, Nat.reduceEqDiff, l2, l6, e]
  induction N with
  | zero =>
    intro i row j LV K B C h1 h2 h3 h4 l2 l4 l7
    refine ⟨LV, fun _ _ => rfl, ?_⟩
    have e0 : many - i = 0 := by omega
    have e1 : i = many := by omega
    rw [stop 0 i row j LV K B C (by omega) (by omega) l4 l7, e0, e1]
    simp [frs]
    rfl
  | succ N ih =>
    intro i row j LV K B C h1 h2 h3 h4 l2 l4 l7
    by_cases hi : i < many
    · have e : decide (nI i < nI many) = true := decide_eq_true (nI_lt hi (by omega))
      have hA : ALM = 30000 := rfl
      have ef := m_freshName (m := n) (ps := (q1, q2, v + i, q4)) (f := ((o, row), g)) (j := j) (by omega) (by dsimp only; omega)
      have en := m_nameR (m := n) (ps := (q1, q2, v + i + 1, q4)) (f := ((o, row), g)) (j := j) (v := v + i) (p := p) hn (by omega) (by dsimp only; omega) (by dsimp only; omega)
      have xx := ma17 (ps := (q1, q2, v + i + 1, q4)) (f := ((o, row), g)) (j := mkN j 1) (v := tv (tName (nI (8192 + (v + i))) p)) (by dsimp only; omega)
      obtain ⟨LV', r1, r2⟩ := ih (i + 1) (row ++ [tv (tName (nI (8192 + (v + i))) p)]) (mkN j 1) (va_up LV 7 (.int (nI (i + 1)))) K B C (by omega) (by omega) (by simp; omega) (by rw [mkN_nn]; omega) l2 l4 rfl
      refine ⟨LV', fun k hk => (r1 k hk).trans (va_up_ne _ _ hk), ?_⟩
      rw [rn_wh]
      simp only [amth_eq, rn_seq, rn_if, rn_set, rn_inc, rn_ex, rn_ret, rn_ret0, rn_skip, rn_putF, rn_opF, rn_opU, rn_putS, rn_opS, rn_at, rn_atB, rn_add, rn_swap, rn_sw, rn_brk, rn_cnt, fin_ok, fin_ab, fin_ite, fin_og, fin_b, fin_0, fin_1, fin_v, fin_no, fin_none, d10, eq_self, decide_true, decide_false, ti_b, b2i_t, b2i_f, aK, aL, aF, aSz, aBin, aDiv, aB, aAt, aNd, aArgs, aCall, aIf, bCmp, bZ, bAnd, bOr, bNot, bTT, bIf, ab_ok, ab_no, ab_none, ab_ab, ab_ite, aok_ok, aok_none, og_ok, og_none, vbin_i, vb8_i, vput_i, vI_i, cmp_i, hold_eq, hold_ne, hold_lt, hold_ge, hold_gt, hold_le, b2i_0, ss_b, ss_ite, oAdd, oSub, oMul, Option.bind_some, A0of, va_up, List.length_nil, List.length_cons, List.getD_cons_zero, List.getD_cons_succ, List.getD_nil, if_true, if_false, Bool.not_not, Bool.not_true, Bool.not_false, Bool.false_eq_true, reduceIte, Nat.reduceSub, Nat.reduceAdd, Nat.reduceEqDiff, l2, l4, l7, e, ef, en, xx, nI_1]
      rw [show v + i + 1 = v + (i + 1) by omega, r2, mkN_mkN, show many - i = (many - (i + 1)) + 1 by omega, frs, Nat.add_assoc v i 1, Nat.add_comm 1]
      simp
    · refine ⟨LV, fun _ _ => rfl, ?_⟩
      have e0 : many - i = 0 := by omega
      have e1 : i = many := by omega
      rw [stop (N + 1) i row j LV K B C (by omega) (by omega) l4 l7, e0, e1]
      simp [frs]
      rfl
theorem m_cur2 {many v : Nat} {p : Int32} (hn : 3 ≤ n) (hfr : ps.2.2.1 < 2 ^ 29) (hv : v + many ≤ ps.2.2.1) (N : Nat) : ∀ (i : Nat) (e : TR) (j : AS) (LV : AL) (K B C : KT), i ≤ N → i ≤ many → j.nn + 4 * i ≤ ALM → LV 2 = .int p → LV 6 = .int (nI (v + 1)) → LV 8 = tv e → LV 9 = .int (nI i - 1) →
    ∃ LV' : AL, (LV' 8 = tv (tLams p (frs v i) e) ∧ ∀ k, k ≠ 8 → k ≠ 9 → LV' k = LV k) ∧ rn (zWh (N + 1) (bZ .ge (aL 9)) (zSet 8 (aCall (aM n) 16 [(aK 19), (aCall (aM n) 46 [(aCall (aM n) 58 [(aCall (aM n) 34 [(aBin oAdd (aBin oAdd (aK 100000) (aL 6)) (aL 9)), (aL 2)]), (aL 8), (aL 2)])]), (aK (-1)), (aK (-1)), (aL 2)])) (zInc 9 (-1)) LV (stM ps f j)) K B C = K LV' (stM ps f (mkN j (4 * i))) := by
  have stop : ∀ (N : Nat) (e : TR) (j : AS) (LV : AL) (K B C : KT), LV 9 = .int (nI 0 - 1) → rn (zWh (N + 1) (bZ .ge (aL 9)) (zSet 8 (aCall (aM n) 16 [(aK 19), (aCall (aM n) 46 [(aCall (aM n) 58 [(aCall (aM n) 34 [(aBin oAdd (aBin oAdd (aK 100000) (aL 6)) (aL 9)), (aL 2)]), (aL 8), (aL 2)])]), (aK (-1)), (aK (-1)), (aL 2)])) (zInc 9 (-1)) LV (stM ps f j)) K B C = K LV (stM ps f j) := by
    intro N e j LV K B C l8
    have e1 : decide ((0 : Int32) ≤ nI 0 - 1) = false := by decide
    rw [rn_wh]
    simp only [d10, eq_self, decide_true, decide_false, ti_b, b2i_t, b2i_f, aK, aL, aF, aSz, aBin, aDiv, aB, aAt, aNd, aArgs, aCall, aIf, bCmp, bZ, bAnd, bOr, bNot, bTT, bIf, ab_ok, ab_no, ab_none, ab_ab, ab_ite, aok_ok, aok_none, og_ok, og_none, vbin_i, vb8_i, vput_i, vI_i, cmp_i, hold_eq, hold_ne, hold_lt, hold_ge, hold_gt, hold_le, b2i_0, ss_b, ss_ite, oAdd, oSub, oMul, Option.bind_some, A0of, va_up, List.length_nil, List.length_cons, List.getD_cons_zero, List.getD_cons_succ, List.getD_nil, if_true, if_false, Bool.not_not, Bool.not_true, Bool.not_false, Bool.false_eq_true, reduceIte, Nat.reduceSub, Nat.reduceAdd, Nat.reduceEqDiff, l8, e1]
  induction N with
  | zero =>
    intro i e j LV K B C h1 h2 h3 l2 l6 l8 l9
    have : i = 0 := by omega
    subst this
    exact ⟨LV, ⟨l8, fun _ _ _ => rfl⟩, stop 0 e j LV K B C l9⟩
  | succ N ih =>
    intro i e j LV K B C h1 h2 h3 l2 l6 l8 l9
    cases i with
    | zero => exact ⟨LV, ⟨l8, fun _ _ _ => rfl⟩, stop (N + 1) e j LV K B C l9⟩
    | succ i =>
      have hA : ALM = 30000 := rfl
      rw [nI_pred] at l9
      have e1 : decide ((0 : Int32) ≤ nI i) = true := decide_eq_true (by
        have : ¬ nI i < nI 0 := nI_nlt (Nat.zero_le _) (by omega)
        exact Int32.not_lt.mp this)
      have e8 := frM_add v i
      have ev := m_variableR (m := n) (ps := ps) (f := f) (j := j) (v := v + i) (p := p) (by omega) (by omega) (by omega) (by omega)
      have er := m_rule (m := n) (ps := ps) (f := f) (j := mkN j 1) (a := tVar (nI (8192 + (v + i))) p) (b := e) (p := p) (by omega) (by rw [mkN_nn]; omega)
      have es := m_single (m := n) (ps := ps) (f := f) (j := mkN (mkN j 1) 1) (t := tRule (tVar (nI (8192 + (v + i))) p) e p) (by omega) (by simp only [mkN_nn]; omega)
      have el := m_make (m := n) (ps := ps) (f := f) (j := mkN (mkN (mkN j 1) 1) 1) (k := 19) (p := p) (a := tLi [tRule (tVar (nI (8192 + (v + i))) p) e p]) (b := .int (-1)) (c := .int (-1)) (by omega) (by simp only [mkN_nn]; omega) (by decide) (okLi _) rfl rfl
      obtain ⟨LV', ⟨r1, r0⟩, r2⟩ := ih i (tLam (tVar (nI (8192 + (v + i))) p) e p) (mkN j 4) (va_up (va_up LV 8 (tv (tLam (tVar (nI (8192 + (v + i))) p) e p))) 9 (.int (nI i - 1))) K B C (by omega) (by omega) (by simp only [mkN_nn]; omega) l2 l6 rfl rfl
      refine ⟨LV', ⟨by rw [r1, frs_snoc, tLams_app, Nat.add_assoc], fun k h8 h9 => (r0 k h8 h9).trans ((va_up_ne _ _ h9).trans (va_up_ne _ _ h8))⟩, ?_⟩
      have em : nI i + -1 = nI i - 1 := (Int32.sub_eq_add_neg _ _).symm
      rw [rn_wh]
      simp only [amth_eq, rn_seq, rn_if, rn_set, rn_inc, rn_ex, rn_ret, rn_ret0, rn_skip, rn_putF, rn_opF, rn_opU, rn_putS, rn_opS, rn_at, rn_atB, rn_add, rn_swap, rn_sw, rn_brk, rn_cnt, fin_ok, fin_ab, fin_ite, fin_og, fin_b, fin_0, fin_1, fin_v, fin_no, fin_none, d10, eq_self, decide_true, decide_false, ti_b, b2i_t, b2i_f, aK, aL, aF, aSz, aBin, aDiv, aB, aAt, aNd, aArgs, aCall, aIf, bCmp, bZ, bAnd, bOr, bNot, bTT, bIf, ab_ok, ab_no, ab_none, ab_ab, ab_ite, aok_ok, aok_none, og_ok, og_none, vbin_i, vb8_i, vput_i, vI_i, cmp_i, hold_eq, hold_ne, hold_lt, hold_ge, hold_gt, hold_le, b2i_0, ss_b, ss_ite, oAdd, oSub, oMul, Option.bind_some, A0of, va_up, List.length_nil, List.length_cons, List.getD_cons_zero, List.getD_cons_succ, List.getD_nil, if_true, if_false, Bool.not_not, Bool.not_true, Bool.not_false, Bool.false_eq_true, reduceIte, Nat.reduceSub, Nat.reduceAdd, Nat.reduceEqDiff, l2, l6, l8, l9, e1, e8, ev, er, es, el, em]
      rw [show 4 * (i + 1) = 4 + 4 * i by omega, ← mkN_mkN]
      exact r2
theorem m_nest (hm : 5 ≤ m) {o many : Nat} {base : List V} {l : List TR} {g : Nat × List V} {nm p : Int32} (f20 : j.1 20 = nm) (f21 : j.1 21 = nI many) (hnm : nm ≤ 8191) (h0 : l.length < 20000) (h1 : many < 20000) (hfr : ps.2.2.1 + many < 2 ^ 29) (hr : o + base.length + l.length + many < ALM) (hnn : j.nn + l.length + 7 * many + 6 ≤ ALM) :
    ∃ cc, cc ≤ l.length + 7 * many + 6 ∧ aM m 77 [.int (nI (o + base.length)), .int p] (stM ps ((o, base ++ l.map tv), g) j) = some (some (tv (71, tv (tVar nm p), tv (tCur (tLi l) many ps.2.2.1 p), .int 1, p)), stM (ps.1, ps.2.1, ps.2.2.1 + many, ps.2.2.2) ((o, base), g) (mkN j cc)) := by
  obtain ⟨n, rfl⟩ := suc1 (m := m) (by omega)
  have hA : ALM = 30000 := rfl
  have eli := m_list (m := n) (ps := ps) (j := j) (o := o) (base := base) (items := l) (g := g) (by omega) (by omega) (by omega) (by omega)
  obtain ⟨L1, a1, a6⟩ := m_cur1 (q1 := ps.1) (q2 := ps.2.1) (q4 := ps.2.2.2) (o := o) (many := many) (v := ps.2.2.1) (g := g) (p := p) (n := n) (by omega) (by omega) hfr 99999 0 base (mkN j l.length) (va_up (va_up (va_up (va_up (va_up (A0of true [.int (nI (o + base.length)), .int p]) 3 (.int nm)) 4 (.int (nI many))) 5 (tLi l)) 6 (.int (nI (ps.2.2.1 + 1)))) 7 (.int 0)) (run [zSeq (zSet 7 (aIf (bCmp .eq (aL 4) (aK 1)) (aPop 17) (aCall (aM n) 47 [(aK 12), (aL 1), (aL 2)]))) (zSeq (zSet 8 (aCall (aM n) 16 [(aK 15), (aCall (aM n) 16 [(aK 19), (aL 5), (aK (-1)), (aK (-1)), (aL 2)]), (aL 7), (aK (-1)), (aL 2)])) (zSeq (zSeq (zSet 9 (aBin oSub (aL 4) (aK 1))) (zWh LN (bZ .ge (aL 9)) (zSet 8 (aCall (aM n) 16 [(aK 19), (aCall (aM n) 46 [(aCall (aM n) 58 [(aCall (aM n) 34 [(aBin oAdd (aBin oAdd (aK 100000) (aL 6)) (aL 9)), (aL 2)]), (aL 8), (aL 2)])]), (aK (-1)), (aK (-1)), (aL 2)])) (zInc 9 (-1)))) (zRet (aCall (aM n) 16 [(aK 71), (aCall (aM n) 34 [(aL 3), (aL 2)]), (aL 8), (aK 1), (aL 2)]))))] nk) nk nk (by omega) (by omega) (by omega) (by rw [mkN_nn]; omega) rfl rfl rfl
  simp only [Nat.add_zero, Nat.sub_zero] at a6
  generalize hl : (frs ps.2.2.1 many).map (fun x => tName x p) = nms at a6
  have hlen : nms.length = many := by rw [← hl, List.length_map, frs_len]
  have b1 : L1 1 = .int (nI (o + base.length)) := (a1 1 (by decide)).trans rfl
  have b2 : L1 2 = .int p := (a1 2 (by decide)).trans rfl
  have b3 : L1 3 = .int nm := (a1 3 (by decide)).trans rfl
  have b4 : L1 4 = .int (nI many) := (a1 4 (by decide)).trans rfl
  have b5 : L1 5 = tLi l := (a1 5 (by decide)).trans rfl
  have b6 : L1 6 = .int (nI (ps.2.2.1 + 1)) := (a1 6 (by decide)).trans rfl
  generalize hQ : ((ps.1, ps.2.1, ps.2.2.1 + many, ps.2.2.2) : PS) = Q at a6 ⊢
  have hQf : Q.2.2.1 = ps.2.2.1 + many := by rw [← hQ]
  obtain ⟨c1, q1, q2⟩ : ∃ c1, c1 ≤ 2 * many + 1 ∧ (aIf (bCmp .eq (aL 4) (aK 1)) (aPop 17) (aCall (aM n) 47 [(aK 12), (aL 1), (aL 2)])) L1 (stM Q ((o, base ++ nms.map tv), g) (mkN (mkN j l.length) many)) = some (some (tv (tMany nms p)), stM Q ((o, base), g) (mkN (mkN (mkN j l.length) many) c1)) := by
    by_cases hm1 : many = 1
    · refine ⟨0, by omega, ?_⟩
      match nms, hlen with
      | [t], _ =>
        have d1 : decide (nI many = 1) = true := by rw [hm1]; decide
        simp only [d10, eq_self, decide_true, decide_false, ti_b, b2i_t, b2i_f, aK, aL, aF, aSz, aBin, aDiv, aB, aAt, aNd, aArgs, aCall, aIf, bCmp, bZ, bAnd, bOr, bNot, bTT, bIf, ab_ok, ab_no, ab_none, ab_ab, ab_ite, aok_ok, aok_none, og_ok, og_none, vbin_i, vb8_i, vput_i, vI_i, cmp_i, hold_eq, hold_ne, hold_lt, hold_ge, hold_gt, hold_le, b2i_0, ss_b, ss_ite, oAdd, oSub, oMul, Option.bind_some, A0of, va_up, List.length_nil, List.length_cons, List.getD_cons_zero, List.getD_cons_succ, List.getD_nil, if_true, if_false, Bool.not_not, Bool.not_true, Bool.not_false, Bool.false_eq_true, reduceIte, Nat.reduceSub, Nat.reduceAdd, Nat.reduceEqDiff, b4, d1]
        exact mp17
      | [], h => simp at h; omega
      | _ :: _ :: _, h => simp at h; omega
    · refine ⟨2 * many + 1, Nat.le_refl _, ?_⟩
      have d1 : decide (nI many = 1) = false := decide_eq_false fun h => hm1 (nI_inj (by omega) (by omega) h)
      have et := m_tuple (m := n) (ps := Q) (j := mkN (mkN j l.length) many) (o := o) (base := base) (items := nms) (fk := 13) (k := 12) (p := p) (g := g) (by omega) (by decide) (by decide) (by decide) (by omega) (by omega) (by simp only [mkN_nn]; omega)
      simp only [d10, eq_self, decide_true, decide_false, ti_b, b2i_t, b2i_f, aK, aL, aF, aSz, aBin, aDiv, aB, aAt, aNd, aArgs, aCall, aIf, bCmp, bZ, bAnd, bOr, bNot, bTT, bIf, ab_ok, ab_no, ab_none, ab_ab, ab_ite, aok_ok, aok_none, og_ok, og_none, vbin_i, vb8_i, vput_i, vI_i, cmp_i, hold_eq, hold_ne, hold_lt, hold_ge, hold_gt, hold_le, b2i_0, ss_b, ss_ite, oAdd, oSub, oMul, Option.bind_some, A0of, va_up, List.length_nil, List.length_cons, List.getD_cons_zero, List.getD_cons_succ, List.getD_nil, if_true, if_false, Bool.not_not, Bool.not_true, Bool.not_false, Bool.false_eq_true, reduceIte, Nat.reduceSub, Nat.reduceAdd, Nat.reduceEqDiff, b1, b2, b4, d1, et, hlen]
      have : tMany nms p = tTup 13 12 nms p := by
        unfold tMany
        split
        · next h => simp at hlen; omega
        · rfl
      rw [this]
  generalize hj2 : mkN (mkN (mkN j l.length) many) c1 = j2 at q2
  have hj2n : j2.nn = j.nn + l.length + many + c1 := by rw [← hj2]; simp only [mkN_nn]
  have ef := m_make (m := n) (ps := Q) (f := ((o, base), g)) (j := j2) (k := 19) (p := p) (a := tLi l) (b := .int (-1)) (c := .int (-1)) (by omega) (by omega) (by decide) (okLi _) rfl rfl
  have ea := m_make (m := n) (ps := Q) (f := ((o, base), g)) (j := mkN j2 1) (k := 15) (p := p) (a := tv (tFn (tLi l) p)) (b := tv (tMany nms p)) (c := .int (-1)) (by omega) (by rw [mkN_nn]; omega) (by decide) rfl rfl rfl
  obtain ⟨L2, ⟨d1, d0⟩, d2⟩ := m_cur2 (ps := Q) (f := ((o, base), g)) (many := many) (v := ps.2.2.1) (p := p) (n := n) (by omega) (by omega) (by omega) 99999 many (tApp (tFn (tLi l) p) (tMany nms p) p) (mkN j2 2) (va_up (va_up (va_up L1 7 (tv (tMany nms p))) 8 (tv (tApp (tFn (tLi l) p) (tMany nms p) p))) 9 (.int (nI many - 1))) (run [zRet (aCall (aM n) 16 [(aK 71), (aCall (aM n) 34 [(aL 3), (aL 2)]), (aL 8), (aK 1), (aL 2)])] nk) nk nk (by omega) (Nat.le_refl _) (by simp only [mkN_nn]; omega) b2 b6 rfl rfl
  have v2 : L2 2 = .int p := (d0 2 (by decide) (by decide)).trans b2
  have v3 : L2 3 = .int nm := (d0 3 (by decide) (by decide)).trans b3
  have ev := m_variable (m := n) (ps := Q) (f := ((o, base), g)) (j := mkN (mkN j2 2) (4 * many)) (i := nm) (p := p) (by omega) (by simp only [mkN_nn]; omega) hnm (by omega)
  have em := m_make (m := n) (ps := Q) (f := ((o, base), g)) (j := mkN (mkN (mkN j2 2) (4 * many)) 1) (k := 71) (p := p) (a := tv (tVar nm p)) (b := tv (tCur (tLi l) many ps.2.2.1 p)) (c := .int 1) (by omega) (by simp only [mkN_nn]; omega) (by decide) rfl rfl rfl
  refine ⟨l.length + many + c1 + 2 + 4 * many + 2, by omega, ?_⟩
  have e6 : oAdd (nI ps.2.2.1) 1 = nI (ps.2.2.1 + 1) := nI_1 _
  have e8 : ∀ (L : AL) (s : AS), L 4 = .int (nI many) → aBin oSub (aL 4) (aK 1) L s = some (some (.int (nI many - 1)), s) := by
    intro L s h
    simp only [d10, eq_self, decide_true, decide_false, ti_b, b2i_t, b2i_f, aK, aL, aF, aSz, aBin, aDiv, aB, aAt, aNd, aArgs, aCall, aIf, bCmp, bZ, bAnd, bOr, bNot, bTT, bIf, ab_ok, ab_no, ab_none, ab_ab, ab_ite, aok_ok, aok_none, og_ok, og_none, vbin_i, vb8_i, vput_i, vI_i, cmp_i, hold_eq, hold_ne, hold_lt, hold_ge, hold_gt, hold_le, b2i_0, ss_b, ss_ite, oAdd, oSub, oMul, Option.bind_some, A0of, va_up, List.length_nil, List.length_cons, List.getD_cons_zero, List.getD_cons_succ, List.getD_nil, if_true, if_false, Bool.not_not, Bool.not_true, Bool.not_false, Bool.false_eq_true, reduceIte, Nat.reduceSub, Nat.reduceAdd, Nat.reduceEqDiff, h]
  have e9 : ∀ (L : AL) (s : AS), aBin oAdd (aF 11) (aK 1) L s = some (some (.int (oAdd (s.1 11) 1)), s) := fun _ _ => rfl
  rw [eM_nest, zM_nest, amth_run, if_pos (show [Term.int (nI (o + base.length)), Term.int p].length = 2 from rfl), fin_ok, run_seq, run_set, aF_e, kS_ok, run_seq, run_set, aF_e, kS_ok, run_seq, run_set, aCall_1, aL_e, ab_ok, show ∀ x y : V, va_up (va_up (A0of true [.int (nI (o + base.length)), .int p]) 3 x) 4 y 1 = .int (nI (o + base.length)) from fun _ _ => rfl, eli, kS_ok, run_seq, run_set, e9, sM_f11, e6, kS_ok, run_seq, run_seq, run_set, aK_e, kS_ok, sM_f20, sM_f21, f20, f21, run_rn, show LN = 99999 + 1 from rfl, a6, run_seq, run_set, q2, kS_ok, run_seq, run_set]
  have e7 : aCall (aM n) 16 [(aK 15), (aCall (aM n) 16 [(aK 19), (aL 5), (aK (-1)), (aK (-1)), (aL 2)]), (aL 7), (aK (-1)), (aL 2)] (va_up L1 7 (tv (tMany nms p))) (stM Q ((o, base), g) j2) = some (some (tv (tApp (tFn (tLi l) p) (tMany nms p) p)), stM Q ((o, base), g) (mkN j2 2)) := by
    have ef' : aM n 16 [.int 19, tLi l, .int (-1), .int (-1), .int p] (stM Q ((o, base), g) j2) = some (some (tv (tFn (tLi l) p)), stM Q ((o, base), g) (mkN j2 1)) := ef
    simp only [d10, eq_self, decide_true, decide_false, ti_b, b2i_t, b2i_f, aK, aL, aF, aSz, aBin, aDiv, aB, aAt, aNd, aArgs, aCall, aIf, bCmp, bZ, bAnd, bOr, bNot, bTT, bIf, ab_ok, ab_no, ab_none, ab_ab, ab_ite, aok_ok, aok_none, og_ok, og_none, vbin_i, vb8_i, vput_i, vI_i, cmp_i, hold_eq, hold_ne, hold_lt, hold_ge, hold_gt, hold_le, b2i_0, ss_b, ss_ite, oAdd, oSub, oMul, Option.bind_some, A0of, va_up, List.length_nil, List.length_cons, List.getD_cons_zero, List.getD_cons_succ, List.getD_nil, if_true, if_false, Bool.not_not, Bool.not_true, Bool.not_false, Bool.false_eq_true, reduceIte, Nat.reduceSub, Nat.reduceAdd, Nat.reduceEqDiff, b5, b2, ef', ea]
    rfl
  rw [e7, kS_ok, run_seq, run_seq, run_set, e8 _ _ (by simpa [va_up] using b4), kS_ok, run_rn, show LN = 99999 + 1 from rfl, d2, run_ret]
  have e10 : aCall (aM n) 16 [(aK 71), (aCall (aM n) 34 [(aL 3), (aL 2)]), (aL 8), (aK 1), (aL 2)] L2 (stM Q ((o, base), g) (mkN (mkN j2 2) (4 * many))) = some (some (tv (71, tv (tVar nm p), tv (tCur (tLi l) many ps.2.2.1 p), .int 1, p)), stM Q ((o, base), g) (mkN (mkN (mkN (mkN j2 2) (4 * many)) 1) 1)) := by
    rw [hl.symm] at d1
    have d1' : L2 8 = tv (tCur (tLi l) many ps.2.2.1 p) := d1
    simp only [d10, eq_self, decide_true, decide_false, ti_b, b2i_t, b2i_f, aK, aL, aF, aSz, aBin, aDiv, aB, aAt, aNd, aArgs, aCall, aIf, bCmp, bZ, bAnd, bOr, bNot, bTT, bIf, ab_ok, ab_no, ab_none, ab_ab, ab_ite, aok_ok, aok_none, og_ok, og_none, vbin_i, vb8_i, vput_i, vI_i, cmp_i, hold_eq, hold_ne, hold_lt, hold_ge, hold_gt, hold_le, b2i_0, ss_b, ss_ite, oAdd, oSub, oMul, Option.bind_some, A0of, va_up, List.length_nil, List.length_cons, List.getD_cons_zero, List.getD_cons_succ, List.getD_nil, if_true, if_false, Bool.not_not, Bool.not_true, Bool.not_false, Bool.false_eq_true, reduceIte, Nat.reduceSub, Nat.reduceAdd, Nat.reduceEqDiff, v2, v3, d1', ev, em]
  rw [e10, ← hj2]
  simp only [mkN_mkN, Nat.add_assoc]
end MNE
