/-! X: fixities are kept, directives, val -/
section XFY
variable {tk : TK} {ps ps' : PS} {f f1 f' : FX} {j j1 j' : AS} {m n k k' : Nat} {A A' : AS} {LV : AL}
def fpc (l : List (Int32 × Int32)) : List V := l.flatMap fun c => [.int c.1, .int c.2]
theorem fpc_len (l : List (Int32 × Int32)) : (fpc l).length = 2 * l.length := by
  induction l with
  | nil => rfl
  | cons c l ih => simp only [fpc, List.flatMap_cons, List.length_append, List.length_cons, List.length_nil] at ih ⊢; omega
theorem x_fg1 {o : Nat} {g : (Nat × List V) × (Nat × List V)} (hq : psOK ps.2.2.2) (hl : ps.2.2.2.2.1.length ≤ 400) (N : Nat) : ∀ (i : Nat) (row : List V) (LV : AL) (K B C : KT), ps.2.2.2.2.1.length - i ≤ N → i < 2 ^ 30 → o + row.length + 2 * (ps.2.2.2.2.1.length - i) < ALM → LV 4 = .int (nI i) →
    ∃ LV' : AL, (∀ k, k ≠ 4 → LV' k = LV k) ∧ rn (zWh (N + 1) (bCmp .lt (aL 4) (aSz 11)) (zSeq (zAdd 13 (aAt 11 (aL 4))) (zAdd 13 (aAt 10 (aAt 11 (aL 4))))) (zInc 4 1) LV (stX tk ps ((o, row), g) j)) K B C = K LV' (stX tk ps ((o, row ++ fpc ((ps.2.2.2.2.1.drop i).map fun x => (x, fxA ps.2.2.2.1 x))), g) j) := by
  induction N with
  | zero =>
    intro i row LV K B C h1 h2 h3 h4
    have e : decide (nI i < nI (0 + (ints ps.2.2.2.2.1).length)) = false := decide_eq_false (nI_nlt (by rw [ints_len]; omega) (by omega))
    refine ⟨LV, fun _ _ => rfl, ?_⟩
    rw [rn_wh, List.drop_eq_nil_of_le (by omega)]
    simp only [d10, eq_self, decide_true, decide_false, ti_b, b2i_t, b2i_f, aK, aL, aF, aSz, aBin, aDiv, aB, aAt, aNd, aArgs, aCall, aIf, bCmp, bZ, bAnd, bOr, bNot, bTT, bIf, ab_ok, ab_no, ab_none, ab_ab, ab_ite, aok_ok, aok_none, og_ok, og_none, vbin_i, vb8_i, vput_i, vI_i, cmp_i, hold_eq, hold_ne, hold_lt, hold_ge, hold_gt, hold_le, b2i_0, ss_b, ss_ite, oAdd, oSub, oMul, Option.bind_some, A0of, va_up, List.length_nil, List.length_cons, List.getD_cons_zero, List.getD_cons_succ, List.getD_nil, if_true, if_false, Bool.not_not, Bool.not_true, Bool.not_false, Bool.false_eq_true, reduceIte, Nat.reduceSub, Nat.reduceAdd, Nat.reduceEqDiff, sX_f3, sX_f17, sX_f18, sX_f21, sX_R0, sX_R1, sX_R2, sX_R10, sX_R11, sX_R12, sX_R13, sX_R14, sX_R15, sX_o0, sX_o1, sX_o2, sX_o10, sX_o11, sX_o12, sX_o13, sX_o14, sX_o15, sX_nn, sX_fl, h4, e]
    simp [fpc]
  | succ N ih =>
    intro i row LV K B C h1 h2 h3 h4
    by_cases hi : i < ps.2.2.2.2.1.length
    · have e : decide (nI i < nI (0 + (ints ps.2.2.2.2.1).length)) = true := decide_eq_true (nI_lt (by rw [ints_len]; omega) (by rw [ints_len]; omega))
      obtain ⟨b1, b2, b3, b4, b5⟩ := id hq
      have hx := b4 _ (List.getElem_mem hi)
      have a1 : aix 0 (ints ps.2.2.2.2.1) (.int (nI i)) = some (.int (ps.2.2.2.2.1[i])) := by rw [aix_ints (by omega) hi, getD_in hi]
      have a2 : aix 0 (ints ps.2.2.2.1) (.int (ps.2.2.2.2.1[i])) = some (.int (fxA ps.2.2.2.1 ps.2.2.2.2.1[i])) := aix_fx b1 hx.1 hx.2
      have x1 := xa13 (tk := tk) (ps := ps) (f := ((o, row), g)) (j := j) (v := .int (ps.2.2.2.2.1[i])) (by dsimp only; omega)
      have x2 := xa13 (tk := tk) (ps := ps) (f := ((o, row ++ [.int (ps.2.2.2.2.1[i])]), g)) (j := j) (v := .int (fxA ps.2.2.2.1 ps.2.2.2.2.1[i])) (by dsimp only; simp; omega)
      obtain ⟨LV', r1, r2⟩ := ih (i + 1) (row ++ [.int (ps.2.2.2.2.1[i])] ++ [.int (fxA ps.2.2.2.1 ps.2.2.2.2.1[i])]) (va_up LV 4 (.int (nI (i + 1)))) K B C (by omega) (by omega) (by simp; omega) rfl
      refine ⟨LV', fun k hk => (r1 k hk).trans (va_up_ne _ _ hk), ?_⟩
      rw [rn_wh]
      simp only [amth_eq, rn_seq, rn_if, rn_set, rn_inc, rn_ex, rn_ret, rn_ret0, rn_skip, rn_putF, rn_opF, rn_opU, rn_putS, rn_opS, rn_at, rn_atB, rn_add, rn_swap, rn_sw, rn_brk, rn_cnt, fin_ok, fin_ab, fin_ite, fin_og, fin_b, fin_0, fin_1, fin_v, fin_no, fin_none, d10, eq_self, decide_true, decide_false, ti_b, b2i_t, b2i_f, aK, aL, aF, aSz, aBin, aDiv, aB, aAt, aNd, aArgs, aCall, aIf, bCmp, bZ, bAnd, bOr, bNot, bTT, bIf, ab_ok, ab_no, ab_none, ab_ab, ab_ite, aok_ok, aok_none, og_ok, og_none, vbin_i, vb8_i, vput_i, vI_i, cmp_i, hold_eq, hold_ne, hold_lt, hold_ge, hold_gt, hold_le, b2i_0, ss_b, ss_ite, oAdd, oSub, oMul, Option.bind_some, A0of, va_up, List.length_nil, List.length_cons, List.getD_cons_zero, List.getD_cons_succ, List.getD_nil, if_true, if_false, Bool.not_not, Bool.not_true, Bool.not_false, Bool.false_eq_true, reduceIte, Nat.reduceSub, Nat.reduceAdd, Nat.reduceEqDiff, sX_f3, sX_f17, sX_f18, sX_f21, sX_R0, sX_R1, sX_R2, sX_R10, sX_R11, sX_R12, sX_R13, sX_R14, sX_R15, sX_o0, sX_o1, sX_o2, sX_o10, sX_o11, sX_o12, sX_o13, sX_o14, sX_o15, sX_nn, sX_fl, h4, e, a1, a2, x1, x2, nI_1]
      rw [r2, List.drop_eq_getElem_cons hi]
      simp only [fpc, List.map_cons, List.flatMap_cons, List.append_assoc, List.cons_append, List.nil_append]
    · have e : decide (nI i < nI (0 + (ints ps.2.2.2.2.1).length)) = false := decide_eq_false (nI_nlt (by rw [ints_len]; omega) (by omega))
      refine ⟨LV, fun _ _ => rfl, ?_⟩
      rw [rn_wh, List.drop_eq_nil_of_le (by omega)]
      simp only [d10, eq_self, decide_true, decide_false, ti_b, b2i_t, b2i_f, aK, aL, aF, aSz, aBin, aDiv, aB, aAt, aNd, aArgs, aCall, aIf, bCmp, bZ, bAnd, bOr, bNot, bTT, bIf, ab_ok, ab_no, ab_none, ab_ab, ab_ite, aok_ok, aok_none, og_ok, og_none, vbin_i, vb8_i, vput_i, vI_i, cmp_i, hold_eq, hold_ne, hold_lt, hold_ge, hold_gt, hold_le, b2i_0, ss_b, ss_ite, oAdd, oSub, oMul, Option.bind_some, A0of, va_up, List.length_nil, List.length_cons, List.getD_cons_zero, List.getD_cons_succ, List.getD_nil, if_true, if_false, Bool.not_not, Bool.not_true, Bool.not_false, Bool.false_eq_true, reduceIte, Nat.reduceSub, Nat.reduceAdd, Nat.reduceEqDiff, sX_f3, sX_f17, sX_f18, sX_f21, sX_R0, sX_R1, sX_R2, sX_R10, sX_R11, sX_R12, sX_R13, sX_R14, sX_R15, sX_o0, sX_o1, sX_o2, sX_o10, sX_o11, sX_o12, sX_o13, sX_o14, sX_o15, sX_nn, sX_fl, h4, e]
      simp [fpc]
theorem x_fg2 {o : Nat} {g : (Nat × List V) × (Nat × List V)} (hn : 1 ≤ n) (N : Nat) : ∀ (cs : List (Int32 × Int32)) (pre : List V) (q : FXS) (LV : AL) (K B C : KT), cs.length ≤ N → psOK q → q.2.1.length + cs.length < ALM → (∀ c ∈ cs, (0 ≤ c.1 ∧ c.1 ≤ 8191) ∧ 0 ≤ c.2 ∧ c.2 ≤ 20) → o + pre.length + 2 * cs.length < 2 ^ 30 → LV 4 = .int (nI (o + pre.length)) →
    ∃ LV' : AL, (∀ k, k ≠ 4 → LV' k = LV k) ∧ rn (zWh (N + 1) (bCmp .lt (aL 4) (aSz 13)) (zEx (aCall (aX n) 102 [(aAt 13 (aL 4)), (aAt 13 (aBin oAdd (aL 4) (aK 1)))])) (zInc 4 2) LV (stX tk (psFx ps q) ((o, pre ++ fpc cs), g) j)) K B C = K LV' (stX tk (psFx ps (cs.foldl (fun q c => fxCh c.1 c.2 q) q)) ((o, pre ++ fpc cs), g) j) := by
  have stop : ∀ (N : Nat) (pre : List V) (q : FXS) (LV : AL) (K B C : KT), o + pre.length < 2 ^ 30 → LV 4 = .int (nI (o + pre.length)) → rn (zWh (N + 1) (bCmp .lt (aL 4) (aSz 13)) (zEx (aCall (aX n) 102 [(aAt 13 (aL 4)), (aAt 13 (aBin oAdd (aL 4) (aK 1)))])) (zInc 4 2) LV (stX tk (psFx ps q) ((o, pre ++ fpc []), g) j)) K B C = K LV (stX tk (psFx ps q) ((o, pre ++ fpc []), g) j) := by
    intro N pre q LV K B C h1 h4
    have e : decide (nI (o + pre.length) < nI (o + (pre ++ fpc []).length)) = false := decide_eq_false (nI_nlt (by simp [fpc]) (by omega))
    rw [rn_wh]
    simp only [d10, eq_self, decide_true, decide_false, ti_b, b2i_t, b2i_f, aK, aL, aF, aSz, aBin, aDiv, aB, aAt, aNd, aArgs, aCall, aIf, bCmp, bZ, bAnd, bOr, bNot, bTT, bIf, ab_ok, ab_no, ab_none, ab_ab, ab_ite, aok_ok, aok_none, og_ok, og_none, vbin_i, vb8_i, vput_i, vI_i, cmp_i, hold_eq, hold_ne, hold_lt, hold_ge, hold_gt, hold_le, b2i_0, ss_b, ss_ite, oAdd, oSub, oMul, Option.bind_some, A0of, va_up, List.length_nil, List.length_cons, List.getD_cons_zero, List.getD_cons_succ, List.getD_nil, if_true, if_false, Bool.not_not, Bool.not_true, Bool.not_false, Bool.false_eq_true, reduceIte, Nat.reduceSub, Nat.reduceAdd, Nat.reduceEqDiff, sX_f3, sX_f17, sX_f18, sX_f21, sX_R0, sX_R1, sX_R2, sX_R10, sX_R11, sX_R12, sX_R13, sX_R14, sX_R15, sX_o0, sX_o1, sX_o2, sX_o10, sX_o11, sX_o12, sX_o13, sX_o14, sX_o15, sX_nn, sX_fl, h4, e]
  induction N with
  | zero =>
    intro cs pre q LV K B C h1 h2 h3 h5 h6 h4
    have : cs = [] := List.eq_nil_of_length_eq_zero (by omega)
    subst this
    exact ⟨LV, fun _ _ => rfl, stop 0 pre q LV K B C (by simpa using h6) h4⟩
  | succ N ih =>
    intro cs pre q LV K B C h1 h2 h3 h5 h6 h4
    cases cs with
    | nil => exact ⟨LV, fun _ _ => rfl, stop (N + 1) pre q LV K B C (by simpa using h6) h4⟩
    | cons c cs =>
      simp only [List.length_cons] at h1 h3 h6
      have hc := h5 c List.mem_cons_self
      have er : pre ++ fpc (c :: cs) = pre ++ .int c.1 :: .int c.2 :: fpc cs := rfl
      have er2 : pre ++ fpc (c :: cs) = (pre ++ [.int c.1]) ++ .int c.2 :: fpc cs := by rw [er]; simp
      have er3 : pre ++ fpc (c :: cs) = (pre ++ [.int c.1, .int c.2]) ++ fpc cs := by rw [er]; simp
      have e : decide (nI (o + pre.length) < nI (o + (pre ++ fpc (c :: cs)).length)) = true := decide_eq_true (nI_lt (by rw [er]; simp) (by rw [List.length_append, fpc_len]; simp; omega))
      have a1 : aix o (pre ++ fpc (c :: cs)) (.int (nI (o + pre.length))) = some (.int c.1) := by rw [er]; exact aix_end rfl (by omega)
      have a2 : aix o (pre ++ fpc (c :: cs)) (.int (nI (o + pre.length + 1))) = some (.int c.2) := by rw [er2]; exact aix_end (by simp [Nat.add_assoc]) (by simp; omega)
      have ech := x_change (tk := tk) (ps := psFx ps q) (f := ((o, pre ++ fpc (c :: cs)), g)) (j := j) (m := n) hn (x := c.1) (v := c.2) h2 (by show q.2.1.length < ALM; omega) hc.1 hc.2
      obtain ⟨LV', r1, r2⟩ := ih cs (pre ++ [.int c.1, .int c.2]) (fxCh c.1 c.2 q) (va_up LV 4 (.int (nI (o + pre.length + 2)))) K B C (by omega) (fxCh_ok h2 hc.1 hc.2) (by simp only [fxCh, List.length_append, List.length_cons, List.length_nil]; omega) (fun c hc => h5 c (List.mem_cons_of_mem _ hc)) (by simp; omega) (by simp [va_up, Nat.add_assoc])
      refine ⟨LV', fun k hk => (r1 k hk).trans (va_up_ne _ _ hk), ?_⟩
      rw [← er3] at r2
      have ei : nI (o + pre.length) + 2 = nI (o + pre.length + 2) := by rw [nI_2]
      rw [rn_wh]
      simp only [amth_eq, rn_seq, rn_if, rn_set, rn_inc, rn_ex, rn_ret, rn_ret0, rn_skip, rn_putF, rn_opF, rn_opU, rn_putS, rn_opS, rn_at, rn_atB, rn_add, rn_swap, rn_sw, rn_brk, rn_cnt, fin_ok, fin_ab, fin_ite, fin_og, fin_b, fin_0, fin_1, fin_v, fin_no, fin_none, d10, eq_self, decide_true, decide_false, ti_b, b2i_t, b2i_f, aK, aL, aF, aSz, aBin, aDiv, aB, aAt, aNd, aArgs, aCall, aIf, bCmp, bZ, bAnd, bOr, bNot, bTT, bIf, ab_ok, ab_no, ab_none, ab_ab, ab_ite, aok_ok, aok_none, og_ok, og_none, vbin_i, vb8_i, vput_i, vI_i, cmp_i, hold_eq, hold_ne, hold_lt, hold_ge, hold_gt, hold_le, b2i_0, ss_b, ss_ite, oAdd, oSub, oMul, Option.bind_some, A0of, va_up, List.length_nil, List.length_cons, List.getD_cons_zero, List.getD_cons_succ, List.getD_nil, if_true, if_false, Bool.not_not, Bool.not_true, Bool.not_false, Bool.false_eq_true, reduceIte, Nat.reduceSub, Nat.reduceAdd, Nat.reduceEqDiff, sX_f3, sX_f17, sX_f18, sX_f21, sX_R0, sX_R1, sX_R2, sX_R10, sX_R11, sX_R12, sX_R13, sX_R14, sX_R15, sX_o0, sX_o1, sX_o2, sX_o10, sX_o11, sX_o12, sX_o13, sX_o14, sX_o15, sX_nn, sX_fl, h4, e, a1, a2, nI_1, ech, ei]
      rw [show psFx (psFx ps q) (fxCh c.1 c.2 (psFx ps q).2.2.2) = psFx ps (fxCh c.1 c.2 q) from rfl, r2]
      rfl
theorem x_forget (hm : 2 ≤ m) {mark middle : Nat} (hq : psOK ps.2.2.2) (hl : ps.2.2.2.2.1.length ≤ 400) (h1 : mark < 2 ^ 30) (h2 : middle < 2 ^ 30) (hr : f.1.1 + f.1.2.length + 802 < ALM) : aX m 101 [.int (nI mark), .int (nI middle)] (stX tk ps f j) = some (some (.int 0), stX tk (psFx ps (fxFg mark middle ps.2.2.2)) f j) := by
  obtain ⟨n, rfl⟩ := suc1 (m := m) (by omega)
  obtain ⟨⟨o, base⟩, g⟩ := f
  dsimp only at hr
  have hA : ALM = 30000 := rfl
  obtain ⟨L1, r1, r2⟩ := x_fg1 (tk := tk) (ps := ps) (j := j) (o := o) (g := g) hq hl 99999 middle base (va_up (va_up (A0of true [.int (nI mark), .int (nI middle)]) 3 (.int (nI (o + base.length)))) 4 (.int (nI middle))) (run [zSeq (zEx (aCall (aX n) 79 [(aL 1)])) (zSeq (zSeq (zSet 4 (aL 3)) (zWh LN (bCmp .lt (aL 4) (aSz 13)) (zEx (aCall (aX n) 102 [(aAt 13 (aL 4)), (aAt 13 (aBin oAdd (aL 4) (aK 1)))])) (zInc 4 2))) (zSeq (zPutS 13 (aL 3)) zRet0))] nk) nk nk (by omega) h2 (by omega) rfl
  have l1 : L1 1 = .int (nI mark) := r1 1 (by decide)
  have l3 : L1 3 = .int (nI (o + base.length)) := r1 3 (by decide)
  simp only [eX_forget, zX_forget, amth_run, run_seq, run_set, fin_ok, aSz, aL, kS_ok, A0of, va_up, List.length_nil, List.length_cons, List.getD_cons_zero, List.getD_cons_succ, List.getD_nil, if_true, if_false, Bool.not_not, Bool.not_true, Bool.not_false, Bool.false_eq_true, reduceIte, Nat.reduceSub, Nat.reduceAdd, Nat.reduceEqDiff, sX_f3, sX_f17, sX_f18, sX_f21, sX_R0, sX_R1, sX_R2, sX_R10, sX_R11, sX_R12, sX_R13, sX_R14, sX_R15, sX_o0, sX_o1, sX_o2, sX_o10, sX_o11, sX_o12, sX_o13, sX_o14, sX_o15, sX_nn, sX_fl]
  rw [run_rn]
  have r2' := r2
  simp only [aL, aSz, A0of, va_up, List.length_nil, List.length_cons, List.getD_cons_zero, List.getD_cons_succ, List.getD_nil, if_true, if_false, Bool.not_not, Bool.not_true, Bool.not_false, Bool.false_eq_true, reduceIte, Nat.reduceSub, Nat.reduceAdd, Nat.reduceEqDiff] at r2' ⊢
  rw [show LN = 99999 + 1 from rfl]
  rw [r2']
  have hbk := x_back (tk := tk) (ps := ps) (f := ((o, base ++ fpc ((ps.2.2.2.2.1.drop middle).map fun x => (x, fxA ps.2.2.2.1 x))), g)) (j := j) (m := n) (mark := mark) (by omega) hq (by omega) h1
  have hk1 := fxBk_ok (mark := mark) hq
  have hk2 := fxBk_len (mark := mark) (q := ps.2.2.2)
  obtain ⟨L2, s1, s2⟩ := x_fg2 (tk := tk) (ps := ps) (j := j) (o := o) (g := g) (n := n) (by omega) 99999 ((ps.2.2.2.2.1.drop middle).map fun x => (x, fxA ps.2.2.2.1 x)) base (fxBk mark ps.2.2.2) (va_up L1 4 (.int (nI (o + base.length)))) (run [zSeq (zPutS 13 (aL 3)) zRet0] nk) nk nk (by simp; omega) hk1 (by simp; omega) (by
    intro c hc
    obtain ⟨x, hx, rfl⟩ := List.mem_map.mp hc
    exact ⟨hq.2.2.2.1 x (List.mem_of_mem_drop hx), fxA_ok hq x⟩) (by simp; omega) rfl
  have l32 : L2 3 = .int (nI (o + base.length)) := by rw [s1 3 (by decide)]; exact l3
  rw [run_seq, run_ex, aCall_1, aL_e, l1, ab_ok, hbk, kE_ok, run_seq, run_seq, run_set, aL_e, kS_ok, l3, run_rn, show LN = 99999 + 1 from rfl, s2, run_seq, run_putS, aL_e, l32, kPS_ok, vsize_nI (by omega) (by simp only [sX_f3, sX_f17, sX_f18, sX_f21, sX_R0, sX_R1, sX_R2, sX_R10, sX_R11, sX_R12, sX_R13, sX_R14, sX_R15, sX_o0, sX_o1, sX_o2, sX_o10, sX_o11, sX_o12, sX_o13, sX_o14, sX_o15, sX_nn, sX_fl]; omega) (by simp only [sX_f3, sX_f17, sX_f18, sX_f21, sX_R0, sX_R1, sX_R2, sX_R10, sX_R11, sX_R12, sX_R13, sX_R14, sX_R15, sX_o0, sX_o1, sX_o2, sX_o10, sX_o11, sX_o12, sX_o13, sX_o14, sX_o15, sX_nn, sX_fl]; simp), og_ok, run_ret0, fin_v]
  simp only [sX_f3, sX_f17, sX_f18, sX_f21, sX_R0, sX_R1, sX_R2, sX_R10, sX_R11, sX_R12, sX_R13, sX_R14, sX_R15, sX_o0, sX_o1, sX_o2, sX_o10, sX_o11, sX_o12, sX_o13, sX_o14, sX_o15, sX_nn, sX_fl, sX_p3, sX_p17, sX_p18, sX_p21, sX_p13, sX_p14, sX_p15, sX_p10, sX_p11, sX_p12, nI_1, nI_pred, Nat.add_sub_cancel_left, List.take_left']
  rfl
theorem x_dirs {em : Unit → V} {B : Nat} {v : Int32} (hem : em () = .int 0) (hn : 2 ≤ n) (hv : 0 ≤ v ∧ v ≤ 20) (N : Nat) : ∀ (M : Nat) (q : PS) (LV : AL), M ≤ N → PRX tk q f j (n + 1) → LV 2 = .int v → j.nn + 100 * (Tn tk - q.1) ≤ B →
    CTx false em tk f j B (fin false false (rn (zWh (N + 1) (bZ .ne (aCall (aX n) 29 [(aK 0)])) (zSeq (zEx (aCall (aX n) 102 [(aCall (aX n) 12 []), (aL 2)])) (zOpF oAdd 3 (aK 1))) zSkip LV (stX tk q f j)) (run [zRet0] nk) nk nk)) (pDirs tk v M q) := by
  induction N with
  | zero =>
    intro M q LV hM
    have : M = 0 := by omega
    subst this
    intros
    exact trivial
  | succ N ih =>
    intro M q LV hM hP h2 hB
    cases M with
    | zero => exact trivial
    | succ M =>
      obtain ⟨ht, hps, ha, ho, hfr, hfl, hS⟩ := id hP
      have hA : ALM = 30000 := rfl
      have ha2 : q.1 ≤ tk.1.length := ha
      rw [rn_wh]
      cases hc : nmB tk q.1 with
      | false =>
        simp only [pDirs, hc]
        simp (disch := first | assumption | omega | (simp only [pr0_1, pr1_1, pr2_1, pr0_10, pr1_10, pr2_10, pr0_11, pr1_11, pr2_11, pr0_12, pr1_12, pr2_12, pr0_13, pr1_13, pr2_13, pr0_14, pr1_14, pr2_14, pr0_15, pr1_15, pr2_15, pr0_16, pr1_16, pr2_16, pr0_17, pr1_17, pr2_17, pr0_18, pr1_18, pr2_18, pr0_19, pr1_19, pr2_19, pr0_20, pr1_20, pr2_20, pr0_30, pr1_30, pr2_30, pr0_31, pr1_31, pr2_31, pr0_32, pr1_32, pr2_32, pr0_33, pr1_33, pr2_33, pr0_34, pr1_34, pr2_34, pr0_35, pr1_35, pr2_35, pr0_36, pr1_36, pr2_36, pr0_37, pr1_37, pr2_37, pr0_50, pr1_50, pr2_50, pr0_51, pr1_51, pr2_51, pr0_52, pr1_52, pr2_52, pr0_53, pr1_53, pr2_53, pr0_54, pr1_54, pr2_54, pr0_70, pr1_70, pr2_70, pr0_71, pr1_71, pr2_71, pr0_72, pr1_72, pr2_72, pr0_73, pr1_73, pr2_73, pr0_74, pr1_74, pr2_74, pr0_75, pr1_75, pr2_75, pr0_76, pr1_76, pr2_76, pr0_77, pr1_77, pr2_77, pr0_78, pr1_78, pr2_78, pr0_79, pr1_79, pr2_79, pr0_80, pr1_80, pr2_80, pr0_81, pr1_81, pr2_81, pr0_82, pr1_82, pr2_82, pr0_83, pr1_83, pr2_83, pr0_84, pr1_84, pr2_84, okF_tv, okF_no, okF_n1, okF_i, okLi, okOv, ok33] <;> assumption) | decide | (simp only [mkN_nn, mkN_fl, sX_fl, sX_nn, List.length_append, List.length_cons, List.length_nil, List.length_map]; omega) | (dsimp only; omega)) only [d10, eq_self, decide_true, decide_false, ti_b, b2i_t, b2i_f, aK, aL, aF, aSz, aBin, aDiv, aB, aAt, aNd, aArgs, aCall, aIf, bCmp, bZ, bAnd, bOr, bNot, bTT, bIf, ab_ok, ab_no, ab_none, ab_ab, ab_ite, aok_ok, aok_none, og_ok, og_none, vbin_i, vb8_i, vput_i, vI_i, cmp_i, hold_eq, hold_ne, hold_lt, hold_ge, hold_gt, hold_le, b2i_0, ss_b, ss_ite, oAdd, oSub, oMul, Option.bind_some, A0of, va_up, List.length_nil, List.length_cons, List.getD_cons_zero, List.getD_cons_succ, List.getD_nil, if_true, if_false, Bool.not_not, Bool.not_true, Bool.not_false, Bool.false_eq_true, reduceIte, Nat.reduceSub, Nat.reduceAdd, Nat.reduceEqDiff, x_isName0, hc, run_ret0, fin_v]
        rw [← hem]
        exact ctx_ret (je.rf (W := false) j) hB
      | true =>
        obtain ⟨hlt, h0, h8⟩ := nm_val ht hc
        have hlt' : q.1 < Tn tk := hlt
        have ech := x_change (tk := tk) (ps := q) (f := f) (j := j) (m := n) (by omega) (x := vAt tk q.1) (v := v) hps (by omega) ⟨h0, h8⟩ hv
        simp only [pDirs, hc, if_true]
        simp (disch := first | assumption | omega | (simp only [pr0_1, pr1_1, pr2_1, pr0_10, pr1_10, pr2_10, pr0_11, pr1_11, pr2_11, pr0_12, pr1_12, pr2_12, pr0_13, pr1_13, pr2_13, pr0_14, pr1_14, pr2_14, pr0_15, pr1_15, pr2_15, pr0_16, pr1_16, pr2_16, pr0_17, pr1_17, pr2_17, pr0_18, pr1_18, pr2_18, pr0_19, pr1_19, pr2_19, pr0_20, pr1_20, pr2_20, pr0_30, pr1_30, pr2_30, pr0_31, pr1_31, pr2_31, pr0_32, pr1_32, pr2_32, pr0_33, pr1_33, pr2_33, pr0_34, pr1_34, pr2_34, pr0_35, pr1_35, pr2_35, pr0_36, pr1_36, pr2_36, pr0_37, pr1_37, pr2_37, pr0_50, pr1_50, pr2_50, pr0_51, pr1_51, pr2_51, pr0_52, pr1_52, pr2_52, pr0_53, pr1_53, pr2_53, pr0_54, pr1_54, pr2_54, pr0_70, pr1_70, pr2_70, pr0_71, pr1_71, pr2_71, pr0_72, pr1_72, pr2_72, pr0_73, pr1_73, pr2_73, pr0_74, pr1_74, pr2_74, pr0_75, pr1_75, pr2_75, pr0_76, pr1_76, pr2_76, pr0_77, pr1_77, pr2_77, pr0_78, pr1_78, pr2_78, pr0_79, pr1_79, pr2_79, pr0_80, pr1_80, pr2_80, pr0_81, pr1_81, pr2_81, pr0_82, pr1_82, pr2_82, pr0_83, pr1_83, pr2_83, pr0_84, pr1_84, pr2_84, okF_tv, okF_no, okF_n1, okF_i, okLi, okOv, ok33] <;> assumption) | decide | (simp only [mkN_nn, mkN_fl, sX_fl, sX_nn, List.length_append, List.length_cons, List.length_nil, List.length_map]; omega) | (dsimp only; omega)) only [amth_eq, rn_seq, rn_if, rn_set, rn_inc, rn_ex, rn_ret, rn_ret0, rn_skip, rn_putF, rn_opF, rn_opU, rn_putS, rn_opS, rn_at, rn_atB, rn_add, rn_swap, rn_sw, rn_brk, rn_cnt, fin_ok, fin_ab, fin_ite, fin_og, fin_b, fin_0, fin_1, fin_v, fin_no, fin_none, d10, eq_self, decide_true, decide_false, ti_b, b2i_t, b2i_f, aK, aL, aF, aSz, aBin, aDiv, aB, aAt, aNd, aArgs, aCall, aIf, bCmp, bZ, bAnd, bOr, bNot, bTT, bIf, ab_ok, ab_no, ab_none, ab_ab, ab_ite, aok_ok, aok_none, og_ok, og_none, vbin_i, vb8_i, vput_i, vI_i, cmp_i, hold_eq, hold_ne, hold_lt, hold_ge, hold_gt, hold_le, b2i_0, ss_b, ss_ite, oAdd, oSub, oMul, Option.bind_some, A0of, va_up, List.length_nil, List.length_cons, List.getD_cons_zero, List.getD_cons_succ, List.getD_nil, if_true, if_false, Bool.not_not, Bool.not_true, Bool.not_false, Bool.false_eq_true, reduceIte, Nat.reduceSub, Nat.reduceAdd, Nat.reduceEqDiff, x_isName0, hc, x_value, h2, ech, sX_f3, sX_f17, sX_f18, sX_f21, sX_R0, sX_R1, sX_R2, sX_R10, sX_R11, sX_R12, sX_R13, sX_R14, sX_R15, sX_o0, sX_o1, sX_o2, sX_o10, sX_o11, sX_o12, sX_o13, sX_o14, sX_o15, sX_nn, sX_fl, sX_p3, sX_p17, sX_p18, sX_p21, sX_p13, sX_p14, sX_p15, sX_p10, sX_p11, sX_p12, nI_1, nI_pred, psFx]
        refine ih M (q.1 + 1, q.2.1, q.2.2.1, fxCh (vAt tk q.1) v q.2.2.2) LV (by omega) ?_ h2 (by dsimp only; omega)
        refine ⟨ht, fxCh_ok hps ⟨h0, h8⟩ hv, hlt', ho, ?_, hfl, ?_⟩
        · show q.2.2.1 + (q.2.2.2.2.1 ++ [vAt tk q.1]).length + 100 * (Tn tk - (q.1 + 1)) ≤ 25000
          simp
          omega
        · show _ + 100 * (Tn tk - (q.1 + 1)) ≤ 29000
          omega
theorem dir_rg {x : Int32} (h0 : 0 ≤ x) (h1 : x < 10) (b : Bool) : 0 ≤ 1 + 2 * x + b2i b ∧ 1 + 2 * x + b2i b ≤ 20 := by
  have h8 : x ≤ 8191 := Int32.le_trans (Int32.le_of_lt h1) (by decide)
  obtain ⟨c1, c2⟩ := clamp_lt h0 h8
  generalize x.toNatClampNeg = i at c1 c2
  subst c2
  have hi : i < 10 := by
    apply Nat.not_le.mp
    intro hq
    have : ¬ nI i < nI 10 := nI_nlt hq (by omega)
    exact this h1
  match i, hi with
  | 0, _ => cases b <;> decide
  | 1, _ => cases b <;> decide
  | 2, _ => cases b <;> decide
  | 3, _ => cases b <;> decide
  | 4, _ => cases b <;> decide
  | 5, _ => cases b <;> decide
  | 6, _ => cases b <;> decide
  | 7, _ => cases b <;> decide
  | 8, _ => cases b <;> decide
  | 9, _ => cases b <;> decide
theorem x_directive {s : Int32} : CoG (fun _ : Unit => Term.int 0) tk 5 0 104 [.int s] (pDir tk s) := by
  intro k ps f j B hk hP hB; have hP0 := hP; obtain ⟨ht, hps, ha, ho, hfr, hfl, hS⟩ := hP0; obtain ⟨n, rfl⟩ := suc1 (m := k) (by omega); have hf2 : 0 < (stX tk ps f j).fl := hfl; have ha2 : ps.1 ≤ tk.1.length := ha; have hA : ALM = 30000 := rfl
  have hf3 : ∀ ps', 0 < (stX tk ps' f j).fl := fun _ => hfl
  have key : ∀ (a : Nat) (LV : AL) (v : Int32), ps.1 ≤ a → a ≤ Tn tk → 0 ≤ v ∧ v ≤ 20 → LV 2 = .int v → CTx false (fun _ : Unit => Term.int 0) tk f j B (fin false false (run [zSeq (zEx (aCall (aX n) 16 [(aCall (aX n) 29 [(aK 0)]), (aK 1)])) (zSeq (zWh LN (bZ .ne (aCall (aX n) 29 [(aK 0)])) (zSeq (zEx (aCall (aX n) 102 [(aCall (aX n) 12 []), (aL 2)])) (zOpF oAdd 3 (aK 1))) zSkip) zRet0)] nk LV (stX tk (a, ps.2) f j))) (if nmB tk a = true then pDirs tk v LF (a, ps.2) else pflt 1 (a, ps.2)) := by
    intro a LV v q1 q2 hv h2
    have ha3 : (a, ps.2).1 ≤ tk.1.length := q2
    rw [run_seq, run_ex]
    cases hc : nmB tk a with
    | false =>
      simp (disch := first | assumption | omega | exact hf3 _ | (simp only [pr0_1, pr1_1, pr2_1, pr0_10, pr1_10, pr2_10, pr0_11, pr1_11, pr2_11, pr0_12, pr1_12, pr2_12, pr0_13, pr1_13, pr2_13, pr0_14, pr1_14, pr2_14, pr0_15, pr1_15, pr2_15, pr0_16, pr1_16, pr2_16, pr0_17, pr1_17, pr2_17, pr0_18, pr1_18, pr2_18, pr0_19, pr1_19, pr2_19, pr0_20, pr1_20, pr2_20, pr0_30, pr1_30, pr2_30, pr0_31, pr1_31, pr2_31, pr0_32, pr1_32, pr2_32, pr0_33, pr1_33, pr2_33, pr0_34, pr1_34, pr2_34, pr0_35, pr1_35, pr2_35, pr0_36, pr1_36, pr2_36, pr0_37, pr1_37, pr2_37, pr0_50, pr1_50, pr2_50, pr0_51, pr1_51, pr2_51, pr0_52, pr1_52, pr2_52, pr0_53, pr1_53, pr2_53, pr0_54, pr1_54, pr2_54, pr0_70, pr1_70, pr2_70, pr0_71, pr1_71, pr2_71, pr0_72, pr1_72, pr2_72, pr0_73, pr1_73, pr2_73, pr0_74, pr1_74, pr2_74, pr0_75, pr1_75, pr2_75, pr0_76, pr1_76, pr2_76, pr0_77, pr1_77, pr2_77, pr0_78, pr1_78, pr2_78, pr0_79, pr1_79, pr2_79, pr0_80, pr1_80, pr2_80, pr0_81, pr1_81, pr2_81, pr0_82, pr1_82, pr2_82, pr0_83, pr1_83, pr2_83, pr0_84, pr1_84, pr2_84, okF_tv, okF_no, okF_n1, okF_i, okLi, okOv, ok33] <;> assumption) | decide | (simp only [mkN_nn, mkN_fl, sX_fl, sX_nn, List.length_append, List.length_cons, List.length_nil, List.length_map]; omega) | (dsimp only; omega)) only [d10, eq_self, decide_true, decide_false, ti_b, b2i_t, b2i_f, aK, aL, aF, aSz, aBin, aDiv, aB, aAt, aNd, aArgs, aCall, aIf, bCmp, bZ, bAnd, bOr, bNot, bTT, bIf, ab_ok, ab_no, ab_none, ab_ab, ab_ite, aok_ok, aok_none, og_ok, og_none, vbin_i, vb8_i, vput_i, vI_i, cmp_i, hold_eq, hold_ne, hold_lt, hold_ge, hold_gt, hold_le, b2i_0, ss_b, ss_ite, oAdd, oSub, oMul, Option.bind_some, A0of, va_up, List.length_nil, List.length_cons, List.getD_cons_zero, List.getD_cons_succ, List.getD_nil, if_true, if_false, Bool.not_not, Bool.not_true, Bool.not_false, Bool.false_eq_true, reduceIte, Nat.reduceSub, Nat.reduceAdd, Nat.reduceEqDiff, x_isName0, hc, x_must0, kE_no, fin_no]
      exact ctx_flt (je.rf (W := false) j) hfl
    | true =>
      have e1 : aCall (aX n) 16 [(aCall (aX n) 29 [(aK 0)]), (aK 1)] LV (stX tk (a, ps.2) f j) = some (some (.int 0), stX tk (a, ps.2) f j) := by
        simp (disch := first | assumption | omega | exact hf3 _ | (simp only [pr0_1, pr1_1, pr2_1, pr0_10, pr1_10, pr2_10, pr0_11, pr1_11, pr2_11, pr0_12, pr1_12, pr2_12, pr0_13, pr1_13, pr2_13, pr0_14, pr1_14, pr2_14, pr0_15, pr1_15, pr2_15, pr0_16, pr1_16, pr2_16, pr0_17, pr1_17, pr2_17, pr0_18, pr1_18, pr2_18, pr0_19, pr1_19, pr2_19, pr0_20, pr1_20, pr2_20, pr0_30, pr1_30, pr2_30, pr0_31, pr1_31, pr2_31, pr0_32, pr1_32, pr2_32, pr0_33, pr1_33, pr2_33, pr0_34, pr1_34, pr2_34, pr0_35, pr1_35, pr2_35, pr0_36, pr1_36, pr2_36, pr0_37, pr1_37, pr2_37, pr0_50, pr1_50, pr2_50, pr0_51, pr1_51, pr2_51, pr0_52, pr1_52, pr2_52, pr0_53, pr1_53, pr2_53, pr0_54, pr1_54, pr2_54, pr0_70, pr1_70, pr2_70, pr0_71, pr1_71, pr2_71, pr0_72, pr1_72, pr2_72, pr0_73, pr1_73, pr2_73, pr0_74, pr1_74, pr2_74, pr0_75, pr1_75, pr2_75, pr0_76, pr1_76, pr2_76, pr0_77, pr1_77, pr2_77, pr0_78, pr1_78, pr2_78, pr0_79, pr1_79, pr2_79, pr0_80, pr1_80, pr2_80, pr0_81, pr1_81, pr2_81, pr0_82, pr1_82, pr2_82, pr0_83, pr1_83, pr2_83, pr0_84, pr1_84, pr2_84, okF_tv, okF_no, okF_n1, okF_i, okLi, okOv, ok33] <;> assumption) | decide | (simp only [mkN_nn, mkN_fl, sX_fl, sX_nn, List.length_append, List.length_cons, List.length_nil, List.length_map]; omega) | (dsimp only; omega)) only [d10, eq_self, decide_true, decide_false, ti_b, b2i_t, b2i_f, aK, aL, aF, aSz, aBin, aDiv, aB, aAt, aNd, aArgs, aCall, aIf, bCmp, bZ, bAnd, bOr, bNot, bTT, bIf, ab_ok, ab_no, ab_none, ab_ab, ab_ite, aok_ok, aok_none, og_ok, og_none, vbin_i, vb8_i, vput_i, vI_i, cmp_i, hold_eq, hold_ne, hold_lt, hold_ge, hold_gt, hold_le, b2i_0, ss_b, ss_ite, oAdd, oSub, oMul, Option.bind_some, A0of, va_up, List.length_nil, List.length_cons, List.getD_cons_zero, List.getD_cons_succ, List.getD_nil, if_true, if_false, Bool.not_not, Bool.not_true, Bool.not_false, Bool.false_eq_true, reduceIte, Nat.reduceSub, Nat.reduceAdd, Nat.reduceEqDiff, x_isName0, hc, x_must1]
      rw [e1, kE_ok, run_seq, run_rn, if_pos rfl]
      exact x_dirs rfl (by omega) hv 99999 LF (a, ps.2) LV (by decide) (hP.at q1 q2 (je.rf (W := false) j) (by omega)) h2 (by dsimp only; omega)
  unfold pDir
  have e20 : ∀ LV : AL, LV 1 = .int s → bCmp .ne (aL 1) (aK 20) LV (stX tk ps f j) = some (some (!decide (s = 20)), stX tk ps f j) := by
    intro LV h
    simp only [d10, eq_self, decide_true, decide_false, ti_b, b2i_t, b2i_f, aK, aL, aF, aSz, aBin, aDiv, aB, aAt, aNd, aArgs, aCall, aIf, bCmp, bZ, bAnd, bOr, bNot, bTT, bIf, ab_ok, ab_no, ab_none, ab_ab, ab_ite, aok_ok, aok_none, og_ok, og_none, vbin_i, vb8_i, vput_i, vI_i, cmp_i, hold_eq, hold_ne, hold_lt, hold_ge, hold_gt, hold_le, b2i_0, ss_b, ss_ite, oAdd, oSub, oMul, Option.bind_some, A0of, va_up, List.length_nil, List.length_cons, List.getD_cons_zero, List.getD_cons_succ, List.getD_nil, if_true, if_false, Bool.not_not, Bool.not_true, Bool.not_false, Bool.false_eq_true, reduceIte, Nat.reduceSub, Nat.reduceAdd, Nat.reduceEqDiff, h]
  have edg : ∀ LV : AL, (bAnd (bAnd (bCmp .eq (aCall (aX n) 9 []) (aK 6)) (bZ .ge (aAt 2 (aF 3)))) (bCmp .lt (aAt 2 (aF 3)) (aK 10))) LV (stX tk ps f j) = some (some (dgB tk ps.1), stX tk ps f j) := by
    intro LV
    unfold dgB
    cases h6 : decide (kAt tk ps.1 = 6) with
    | false => simp (disch := first | assumption | omega | (simp only [pr0_1, pr1_1, pr2_1, pr0_10, pr1_10, pr2_10, pr0_11, pr1_11, pr2_11, pr0_12, pr1_12, pr2_12, pr0_13, pr1_13, pr2_13, pr0_14, pr1_14, pr2_14, pr0_15, pr1_15, pr2_15, pr0_16, pr1_16, pr2_16, pr0_17, pr1_17, pr2_17, pr0_18, pr1_18, pr2_18, pr0_19, pr1_19, pr2_19, pr0_20, pr1_20, pr2_20, pr0_30, pr1_30, pr2_30, pr0_31, pr1_31, pr2_31, pr0_32, pr1_32, pr2_32, pr0_33, pr1_33, pr2_33, pr0_34, pr1_34, pr2_34, pr0_35, pr1_35, pr2_35, pr0_36, pr1_36, pr2_36, pr0_37, pr1_37, pr2_37, pr0_50, pr1_50, pr2_50, pr0_51, pr1_51, pr2_51, pr0_52, pr1_52, pr2_52, pr0_53, pr1_53, pr2_53, pr0_54, pr1_54, pr2_54, pr0_70, pr1_70, pr2_70, pr0_71, pr1_71, pr2_71, pr0_72, pr1_72, pr2_72, pr0_73, pr1_73, pr2_73, pr0_74, pr1_74, pr2_74, pr0_75, pr1_75, pr2_75, pr0_76, pr1_76, pr2_76, pr0_77, pr1_77, pr2_77, pr0_78, pr1_78, pr2_78, pr0_79, pr1_79, pr2_79, pr0_80, pr1_80, pr2_80, pr0_81, pr1_81, pr2_81, pr0_82, pr1_82, pr2_82, pr0_83, pr1_83, pr2_83, pr0_84, pr1_84, pr2_84, okF_tv, okF_no, okF_n1, okF_i, okLi, okOv, ok33] <;> assumption) | decide | (simp only [mkN_nn, mkN_fl, sX_fl, sX_nn, List.length_append, List.length_cons, List.length_nil, List.length_map]; omega) | (dsimp only; omega)) only [d10, eq_self, decide_true, decide_false, ti_b, b2i_t, b2i_f, aK, aL, aF, aSz, aBin, aDiv, aB, aAt, aNd, aArgs, aCall, aIf, bCmp, bZ, bAnd, bOr, bNot, bTT, bIf, ab_ok, ab_no, ab_none, ab_ab, ab_ite, aok_ok, aok_none, og_ok, og_none, vbin_i, vb8_i, vput_i, vI_i, cmp_i, hold_eq, hold_ne, hold_lt, hold_ge, hold_gt, hold_le, b2i_0, ss_b, ss_ite, oAdd, oSub, oMul, Option.bind_some, A0of, va_up, List.length_nil, List.length_cons, List.getD_cons_zero, List.getD_cons_succ, List.getD_nil, if_true, if_false, Bool.not_not, Bool.not_true, Bool.not_false, Bool.false_eq_true, reduceIte, Nat.reduceSub, Nat.reduceAdd, Nat.reduceEqDiff, x_kind', h6, Bool.false_and]
    | true =>
      have hlt : ps.1 < Tn tk := k_lt (by rw [of_decide_eq_true h6]; decide)
      have hv := aix_n ht hlt
      cases h7 : decide (0 ≤ nAt tk ps.1) <;> simp (disch := first | assumption | omega | (simp only [pr0_1, pr1_1, pr2_1, pr0_10, pr1_10, pr2_10, pr0_11, pr1_11, pr2_11, pr0_12, pr1_12, pr2_12, pr0_13, pr1_13, pr2_13, pr0_14, pr1_14, pr2_14, pr0_15, pr1_15, pr2_15, pr0_16, pr1_16, pr2_16, pr0_17, pr1_17, pr2_17, pr0_18, pr1_18, pr2_18, pr0_19, pr1_19, pr2_19, pr0_20, pr1_20, pr2_20, pr0_30, pr1_30, pr2_30, pr0_31, pr1_31, pr2_31, pr0_32, pr1_32, pr2_32, pr0_33, pr1_33, pr2_33, pr0_34, pr1_34, pr2_34, pr0_35, pr1_35, pr2_35, pr0_36, pr1_36, pr2_36, pr0_37, pr1_37, pr2_37, pr0_50, pr1_50, pr2_50, pr0_51, pr1_51, pr2_51, pr0_52, pr1_52, pr2_52, pr0_53, pr1_53, pr2_53, pr0_54, pr1_54, pr2_54, pr0_70, pr1_70, pr2_70, pr0_71, pr1_71, pr2_71, pr0_72, pr1_72, pr2_72, pr0_73, pr1_73, pr2_73, pr0_74, pr1_74, pr2_74, pr0_75, pr1_75, pr2_75, pr0_76, pr1_76, pr2_76, pr0_77, pr1_77, pr2_77, pr0_78, pr1_78, pr2_78, pr0_79, pr1_79, pr2_79, pr0_80, pr1_80, pr2_80, pr0_81, pr1_81, pr2_81, pr0_82, pr1_82, pr2_82, pr0_83, pr1_83, pr2_83, pr0_84, pr1_84, pr2_84, okF_tv, okF_no, okF_n1, okF_i, okLi, okOv, ok33] <;> assumption) | decide | (simp only [mkN_nn, mkN_fl, sX_fl, sX_nn, List.length_append, List.length_cons, List.length_nil, List.length_map]; omega) | (dsimp only; omega)) only [d10, eq_self, decide_true, decide_false, ti_b, b2i_t, b2i_f, aK, aL, aF, aSz, aBin, aDiv, aB, aAt, aNd, aArgs, aCall, aIf, bCmp, bZ, bAnd, bOr, bNot, bTT, bIf, ab_ok, ab_no, ab_none, ab_ab, ab_ite, aok_ok, aok_none, og_ok, og_none, vbin_i, vb8_i, vput_i, vI_i, cmp_i, hold_eq, hold_ne, hold_lt, hold_ge, hold_gt, hold_le, b2i_0, ss_b, ss_ite, oAdd, oSub, oMul, Option.bind_some, A0of, va_up, List.length_nil, List.length_cons, List.getD_cons_zero, List.getD_cons_succ, List.getD_nil, if_true, if_false, Bool.not_not, Bool.not_true, Bool.not_false, Bool.false_eq_true, reduceIte, Nat.reduceSub, Nat.reduceAdd, Nat.reduceEqDiff, sX_f3, sX_f17, sX_f18, sX_f21, sX_R0, sX_R1, sX_R2, sX_R10, sX_R11, sX_R12, sX_R13, sX_R14, sX_R15, sX_o0, sX_o1, sX_o2, sX_o10, sX_o11, sX_o12, sX_o13, sX_o14, sX_o15, sX_nn, sX_fl, x_kind', h6, hv, h7, Bool.true_and, Bool.false_and]
  have e17 : (if s = 17 then (1 : Int32) else 0) = b2i (decide (s = 17)) := by by_cases h : s = 17 <;> simp [h, b2i]
  simp only [eX_directive, zX_directive, amth_run, run_seq, run_set, List.length_cons, List.length_nil, Nat.zero_add, if_true]
  rw [show ∀ (LV : AL) A, aK 0 LV A = some (some (.int 0), A) from fun _ _ => rfl, kS_ok, run_seq, run_if, e20 _ rfl]
  by_cases hs : s = 20
  · rw [decide_eq_true hs]
    simp only [Bool.not_true, kI_f, run_skip, Bool.false_and, Bool.false_eq_true, if_false, hs, if_true]
    have := key ps.1 (va_up (A0of true [.int s]) 2 (.int 0)) 0 (Nat.le_refl _) ha (by decide) rfl
    rw [hs] at this
    exact this
  · rw [decide_eq_false hs]
    simp only [Bool.not_false, kI_t, run_seq, run_set, aIf01 (edg _), kS_ok, Bool.true_and, hs, if_false]
    cases hd : dgB tk ps.1 with
    | false =>
      have ev : ∀ LV : AL, LV 1 = .int s → LV 3 = .int 0 → (aBin oAdd (aBin oAdd (aK 1) (aIf (bZ .ne (aL 3)) (aBin oMul (aK 2) (aAt 2 (aF 3))) (aK 0))) (aIf (bCmp .eq (aL 1) (aK 17)) (aK 1) (aK 0))) LV (stX tk ps f j) = some (some (.int (1 + 0 + b2i (decide (s = 17)))), stX tk ps f j) := by
        intro LV l1 l3
        cases h : decide (s = 17) <;> simp only [d10, eq_self, decide_true, decide_false, ti_b, b2i_t, b2i_f, aK, aL, aF, aSz, aBin, aDiv, aB, aAt, aNd, aArgs, aCall, aIf, bCmp, bZ, bAnd, bOr, bNot, bTT, bIf, ab_ok, ab_no, ab_none, ab_ab, ab_ite, aok_ok, aok_none, og_ok, og_none, vbin_i, vb8_i, vput_i, vI_i, cmp_i, hold_eq, hold_ne, hold_lt, hold_ge, hold_gt, hold_le, b2i_0, ss_b, ss_ite, oAdd, oSub, oMul, Option.bind_some, A0of, va_up, List.length_nil, List.length_cons, List.getD_cons_zero, List.getD_cons_succ, List.getD_nil, if_true, if_false, Bool.not_not, Bool.not_true, Bool.not_false, Bool.false_eq_true, reduceIte, Nat.reduceSub, Nat.reduceAdd, Nat.reduceEqDiff, l1, l3, h]
      rw [ev _ rfl rfl, kS_ok, run_if, show ∀ (v2 : V) (A : AS), bZ .ne (aL 3) (va_up (va_up (va_up (A0of true [.int s]) 2 (.int 0)) 3 (.int (b2i false))) 2 v2) A = some (some false, A) from fun _ _ => rfl, kI_f, run_skip, e17]
      simp only [Bool.false_eq_true, if_false]
      exact key ps.1 _ _ (Nat.le_refl _) ha (by cases decide (s = 17) <;> decide) rfl
    | true =>
      have h6 : kAt tk ps.1 = 6 ∧ 0 ≤ nAt tk ps.1 ∧ nAt tk ps.1 < 10 := by
        unfold dgB at hd
        simp only [Bool.and_eq_true, decide_eq_true_eq] at hd
        exact ⟨hd.1.1, hd.1.2, hd.2⟩
      have hlt : ps.1 < Tn tk := k_lt (by rw [h6.1]; decide)
      have hv := aix_n ht hlt
      have ev : ∀ LV : AL, LV 1 = .int s → LV 3 = .int 1 → (aBin oAdd (aBin oAdd (aK 1) (aIf (bZ .ne (aL 3)) (aBin oMul (aK 2) (aAt 2 (aF 3))) (aK 0))) (aIf (bCmp .eq (aL 1) (aK 17)) (aK 1) (aK 0))) LV (stX tk ps f j) = some (some (.int (1 + 2 * nAt tk ps.1 + b2i (decide (s = 17)))), stX tk ps f j) := by
        intro LV l1 l3
        cases h : decide (s = 17) <;> simp only [d10, eq_self, decide_true, decide_false, ti_b, b2i_t, b2i_f, aK, aL, aF, aSz, aBin, aDiv, aB, aAt, aNd, aArgs, aCall, aIf, bCmp, bZ, bAnd, bOr, bNot, bTT, bIf, ab_ok, ab_no, ab_none, ab_ab, ab_ite, aok_ok, aok_none, og_ok, og_none, vbin_i, vb8_i, vput_i, vI_i, cmp_i, hold_eq, hold_ne, hold_lt, hold_ge, hold_gt, hold_le, b2i_0, ss_b, ss_ite, oAdd, oSub, oMul, Option.bind_some, A0of, va_up, List.length_nil, List.length_cons, List.getD_cons_zero, List.getD_cons_succ, List.getD_nil, if_true, if_false, Bool.not_not, Bool.not_true, Bool.not_false, Bool.false_eq_true, reduceIte, Nat.reduceSub, Nat.reduceAdd, Nat.reduceEqDiff, sX_f3, sX_f17, sX_f18, sX_f21, sX_R0, sX_R1, sX_R2, sX_R10, sX_R11, sX_R12, sX_R13, sX_R14, sX_R15, sX_o0, sX_o1, sX_o2, sX_o10, sX_o11, sX_o12, sX_o13, sX_o14, sX_o15, sX_nn, sX_fl, l1, l3, h, hv]
      rw [ev _ rfl rfl, kS_ok, run_if, show ∀ (v2 : V) (A : AS), bZ .ne (aL 3) (va_up (va_up (va_up (A0of true [.int s]) 2 (.int 0)) 3 (.int (b2i true))) 2 v2) A = some (some true, A) from fun _ _ => rfl, kI_t, run_opF, aK_e, kOF_ok, sX_f3, show oAdd (nI ps.1) 1 = nI (ps.1 + 1) from nI_1 _, sX_p3, e17]
      simp only [if_true]
      exact key (ps.1 + 1) _ _ (Nat.le_succ _) hlt (dir_rg h6.2.1 h6.2.2 _) rfl
end XFY
