/-! X: fixities are taken back -/
theorem b8_ok {v : Int32} (h0 : 0 ≤ v) (h1 : v ≤ 20) : v.toInt8.toInt32 = v := by
  have a0 : (0 : Int) ≤ v.toInt := by simpa using Int32.le_iff_toInt_le.mp h0
  have a1 : v.toInt ≤ 20 := by simpa using Int32.le_iff_toInt_le.mp h1
  apply Int32.toInt_inj.mp
  rw [Int8.toInt_toInt32, Int32.toInt_toInt8]
  exact Int.bmod_eq_of_le (by omega) (by omega)
section XBA
variable {tk : TK} {ps ps' : PS} {f f1 f' : FX} {j j1 j' : AS} {m n k k' : Nat} {A : AS}
theorem ints_app (a b : List Int32) : ints (a ++ b) = ints a ++ ints b := by simp [ints]
theorem ints_set (l : List Int32) (i : Nat) (v : Int32) : (ints l).set i (.int v) = ints (l.set i v) := by simp [ints, List.map_set]
theorem fxBk_stop {mark : Nat} {q : FXS} (hl : q.2.1.length = q.2.2.length) (h : q.2.1.length ≤ mark) : fxBk mark q = q := by
  unfold fxBk
  rw [List.drop_eq_nil_of_le h, List.take_of_length_le h, List.take_of_length_le (by omega)]
  rfl
theorem fxBk_step {mark : Nat} {fx ch be : List Int32} {n v : Int32} (hl : ch.length = be.length) (h : mark ≤ ch.length) : fxBk mark (fx, ch ++ [n], be ++ [v]) = fxBk mark (fx.set n.toNatClampNeg v, ch, be) := by
  unfold fxBk
  dsimp only
  rw [List.drop_append_of_le_length h, List.drop_append_of_le_length (by omega), List.take_append_of_le_length h, List.take_append_of_le_length (by omega), List.zip_append (by simp; omega), List.foldr_append]
  rfl
theorem psOK_set {fx ch be : List Int32} {n v : Int32} (h : psOK (fx, ch ++ [n], be ++ [v])) : psOK (fx.set n.toNatClampNeg v, ch, be) := by
  obtain ⟨h1, h2, h3, h4, h5⟩ := h
  dsimp only at h1 h2 h3 h4 h5
  refine ⟨by simpa using h1, fun x hx => ?_, by simpa using h3, fun x hx => h4 x (List.mem_append_left _ hx), fun x hx => h5 x (List.mem_append_left _ hx)⟩
  rcases List.mem_or_eq_of_mem_set hx with hx | hx
  · exact h2 x hx
  · rw [hx]; exact h5 v (by simp)
theorem x_back_loop {mark : Nat} (N : Nat) : ∀ (q : FXS) (LV : AL), psOK q → q.2.1.length ≤ mark + N → q.2.1.length < 2 ^ 30 → mark < 2 ^ 30 → LV 1 = .int (nI mark) → ∀ (K B C : KT),
    rn (zWh (N + 1) (bCmp .gt (aSz 11) (aL 1)) (zAtB 10 (aPop 11) (aB (aPop 12))) zSkip LV (stX tk (psFx ps q) f j)) K B C = K LV (stX tk (psFx ps (fxBk mark q)) f j) := by
  induction N with
  | zero =>
    intro q LV hq h1 h2 h3 hl K B C
    rw [rn_wh, fxBk_stop hq.2.2.1 (by omega)]
    have e : decide (nI mark < nI (0 + (ints q.2.1).length)) = false := decide_eq_false (nI_nlt (by rw [ints_len]; omega) (by omega))
    simp only [d10, eq_self, decide_true, decide_false, ti_b, b2i_t, b2i_f, aK, aL, aF, aSz, aBin, aDiv, aB, aAt, aNd, aArgs, aCall, aIf, bCmp, bZ, bAnd, bOr, bNot, bTT, bIf, ab_ok, ab_no, ab_none, ab_ab, ab_ite, aok_ok, aok_none, og_ok, og_none, vbin_i, vb8_i, vput_i, vI_i, cmp_i, hold_eq, hold_ne, hold_lt, hold_ge, hold_gt, hold_le, b2i_0, ss_b, ss_ite, oAdd, oSub, oMul, Option.bind_some, A0of, va_up, List.length_nil, List.length_cons, List.getD_cons_zero, List.getD_cons_succ, List.getD_nil, if_true, if_false, Bool.not_not, Bool.not_true, Bool.not_false, Bool.false_eq_true, reduceIte, Nat.reduceSub, Nat.reduceAdd, Nat.reduceEqDiff, sX_f3, sX_f17, sX_f18, sX_f21, sX_R0, sX_R1, sX_R2, sX_R10, sX_R11, sX_R12, sX_R13, sX_R14, sX_R15, sX_o0, sX_o1, sX_o2, sX_o10, sX_o11, sX_o12, sX_o13, sX_o14, sX_o15, sX_nn, sX_fl, hl, psFx, e]
  | succ N ih =>
    intro q LV hq h1 h2 h3 hl K B C
    obtain ⟨fx, ch, be⟩ := q
    obtain ⟨b1, b2, b3, b4, b5⟩ := id hq
    dsimp only at b1 b2 b3 b4 b5 h1 h2
    rw [rn_wh]
    by_cases hc : ch.length ≤ mark
    · rw [fxBk_stop b3 hc]
      have e : decide (nI mark < nI (0 + (ints ch).length)) = false := decide_eq_false (nI_nlt (by rw [ints_len]; omega) (by omega))
      simp only [d10, eq_self, decide_true, decide_false, ti_b, b2i_t, b2i_f, aK, aL, aF, aSz, aBin, aDiv, aB, aAt, aNd, aArgs, aCall, aIf, bCmp, bZ, bAnd, bOr, bNot, bTT, bIf, ab_ok, ab_no, ab_none, ab_ab, ab_ite, aok_ok, aok_none, og_ok, og_none, vbin_i, vb8_i, vput_i, vI_i, cmp_i, hold_eq, hold_ne, hold_lt, hold_ge, hold_gt, hold_le, b2i_0, ss_b, ss_ite, oAdd, oSub, oMul, Option.bind_some, A0of, va_up, List.length_nil, List.length_cons, List.getD_cons_zero, List.getD_cons_succ, List.getD_nil, if_true, if_false, Bool.not_not, Bool.not_true, Bool.not_false, Bool.false_eq_true, reduceIte, Nat.reduceSub, Nat.reduceAdd, Nat.reduceEqDiff, sX_f3, sX_f17, sX_f18, sX_f21, sX_R0, sX_R1, sX_R2, sX_R10, sX_R11, sX_R12, sX_R13, sX_R14, sX_R15, sX_o0, sX_o1, sX_o2, sX_o10, sX_o11, sX_o12, sX_o13, sX_o14, sX_o15, sX_nn, sX_fl, hl, psFx, e]
    · rcases List.eq_nil_or_concat ch with hz | ⟨ch0, n, rfl⟩
      · rw [hz] at hc; simp at hc
      · rcases List.eq_nil_or_concat be with hz | ⟨be0, v, rfl⟩
        · rw [hz] at b3; simp at b3
        · simp only [List.concat_eq_append] at *
          simp only [List.length_append, List.length_cons, List.length_nil] at b3 h1 h2 hc
          have e : decide (nI mark < nI (0 + (ints (ch0 ++ [n])).length)) = true := decide_eq_true (nI_lt (by rw [ints_len]; simp; omega) (by rw [ints_len]; simp; omega))
          have hn := b4 n (by simp)
          have hv := b5 v (by simp)
          have p1 : aPop 11 LV (stX tk (psFx ps (fx, ch0 ++ [n], be0 ++ [v])) f j) = some (some (.int n), stX tk (psFx ps (fx, ch0, be0 ++ [v])) f j) := by
            rw [pop_ok (l := ints ch0) (v := .int n) (by simp only [sX_f3, sX_f17, sX_f18, sX_f21, sX_R0, sX_R1, sX_R2, sX_R10, sX_R11, sX_R12, sX_R13, sX_R14, sX_R15, sX_o0, sX_o1, sX_o2, sX_o10, sX_o11, sX_o12, sX_o13, sX_o14, sX_o15, sX_nn, sX_fl, psFx, ints_app]; rfl)]
            simp only [sX_f3, sX_f17, sX_f18, sX_f21, sX_R0, sX_R1, sX_R2, sX_R10, sX_R11, sX_R12, sX_R13, sX_R14, sX_R15, sX_o0, sX_o1, sX_o2, sX_o10, sX_o11, sX_o12, sX_o13, sX_o14, sX_o15, sX_nn, sX_fl, sX_p3, sX_p17, sX_p18, sX_p21, sX_p13, sX_p14, sX_p15, sX_p10, sX_p11, sX_p12, nI_1, nI_pred, psFx]
          have p2 : aPop 12 LV (stX tk (psFx ps (fx, ch0, be0 ++ [v])) f j) = some (some (.int v), stX tk (psFx ps (fx, ch0, be0)) f j) := by
            rw [pop_ok (l := ints be0) (v := .int v) (by simp only [sX_f3, sX_f17, sX_f18, sX_f21, sX_R0, sX_R1, sX_R2, sX_R10, sX_R11, sX_R12, sX_R13, sX_R14, sX_R15, sX_o0, sX_o1, sX_o2, sX_o10, sX_o11, sX_o12, sX_o13, sX_o14, sX_o15, sX_nn, sX_fl, psFx, ints_app]; rfl)]
            simp only [sX_f3, sX_f17, sX_f18, sX_f21, sX_R0, sX_R1, sX_R2, sX_R10, sX_R11, sX_R12, sX_R13, sX_R14, sX_R15, sX_o0, sX_o1, sX_o2, sX_o10, sX_o11, sX_o12, sX_o13, sX_o14, sX_o15, sX_nn, sX_fl, sX_p3, sX_p17, sX_p18, sX_p21, sX_p13, sX_p14, sX_p15, sX_p10, sX_p11, sX_p12, nI_1, nI_pred, psFx]
          obtain ⟨c1, c2⟩ := clamp_lt hn.1 hn.2
          have p3 : vset (stX tk (psFx ps (fx, ch0, be0)) f j) 10 (.int n) (.int v) = some (stX tk (psFx ps (fx.set n.toNatClampNeg v, ch0, be0)) f j) := by
            have := vset_nI (A := stX tk (psFx ps (fx, ch0, be0)) f j) (k := 10) (n := n.toNatClampNeg) (v := .int v) (by omega) (by simp only [sX_f3, sX_f17, sX_f18, sX_f21, sX_R0, sX_R1, sX_R2, sX_R10, sX_R11, sX_R12, sX_R13, sX_R14, sX_R15, sX_o0, sX_o1, sX_o2, sX_o10, sX_o11, sX_o12, sX_o13, sX_o14, sX_o15, sX_nn, sX_fl]; omega) (by simp only [sX_f3, sX_f17, sX_f18, sX_f21, sX_R0, sX_R1, sX_R2, sX_R10, sX_R11, sX_R12, sX_R13, sX_R14, sX_R15, sX_o0, sX_o1, sX_o2, sX_o10, sX_o11, sX_o12, sX_o13, sX_o14, sX_o15, sX_nn, sX_fl, psFx, ints_len]; omega)
            rw [← c2] at this
            rw [this]
            simp only [sX_f3, sX_f17, sX_f18, sX_f21, sX_R0, sX_R1, sX_R2, sX_R10, sX_R11, sX_R12, sX_R13, sX_R14, sX_R15, sX_o0, sX_o1, sX_o2, sX_o10, sX_o11, sX_o12, sX_o13, sX_o14, sX_o15, sX_nn, sX_fl, sX_p3, sX_p17, sX_p18, sX_p21, sX_p13, sX_p14, sX_p15, sX_p10, sX_p11, sX_p12, nI_1, nI_pred, psFx, Nat.sub_zero, ints_set]
          have p4 : isB8 (.int v) = true := by simp only [isB8, b8_ok hv.1 hv.2, decide_true]
          have es : ∀ q : FXS, (stX tk (psFx ps q) f j).R 11 = ints q.2.1 := fun _ => rfl
          have eo : ∀ q : FXS, (stX tk (psFx ps q) f j).of 11 = 0 := fun _ => rfl
          simp only [amth_eq, rn_seq, rn_if, rn_set, rn_inc, rn_ex, rn_ret, rn_ret0, rn_skip, rn_putF, rn_opF, rn_opU, rn_putS, rn_opS, rn_at, rn_atB, rn_add, rn_swap, rn_sw, rn_brk, rn_cnt, fin_ok, fin_ab, fin_ite, fin_og, fin_b, fin_0, fin_1, fin_v, fin_no, fin_none, d10, eq_self, decide_true, decide_false, ti_b, b2i_t, b2i_f, aK, aL, aF, aSz, aBin, aDiv, aB, aAt, aNd, aArgs, aCall, aIf, bCmp, bZ, bAnd, bOr, bNot, bTT, bIf, ab_ok, ab_no, ab_none, ab_ab, ab_ite, aok_ok, aok_none, og_ok, og_none, vbin_i, vb8_i, vput_i, vI_i, cmp_i, hold_eq, hold_ne, hold_lt, hold_ge, hold_gt, hold_le, b2i_0, ss_b, ss_ite, oAdd, oSub, oMul, Option.bind_some, A0of, va_up, List.length_nil, List.length_cons, List.getD_cons_zero, List.getD_cons_succ, List.getD_nil, if_true, if_false, Bool.not_not, Bool.not_true, Bool.not_false, Bool.false_eq_true, reduceIte, Nat.reduceSub, Nat.reduceAdd, Nat.reduceEqDiff, hl, e, es, eo, p1, p2, vb8_i, b8_ok hv.1 hv.2, p4, p3]
          rw [fxBk_step (by omega) (by omega)]
          exact ih _ LV (psOK_set hq) (by dsimp only; omega) (by dsimp only; omega) h3 hl K B C
theorem x_back (hm : 1 ≤ m) {mark : Nat} (hq : psOK ps.2.2.2) (h1 : ps.2.2.2.2.1.length < 99999) (h2 : mark < 2 ^ 30) : aX m 79 [.int (nI mark)] (stX tk ps f j) = some (some (.int 0), stX tk (psFx ps (fxBk mark ps.2.2.2)) f j) := by
  obtain ⟨n, rfl⟩ := suc1 hm
  simp only [eX_back, zX_back, amth_run, run_nil, run_seq, run_skip, run_ret0, run_ret, run_set, run_inc, run_ex, run_if, run_putF, run_opF, run_opU, run_putS, run_opS, run_add, run_at, run_atB, run_sw, kS_ok, kS_no, kE_ok, kE_no, kI_t, kI_f, kI_no, kPF_ok, kOF_ok, kPS_ok, kOS_ok, kAD_ok, kAD_no, kT1_ok, kT2_ok, kB1_ok, kB2_ok, kSw_ok, fin_ok, fin_b, fin_0, fin_1, fin_v, fin_no, fin_none, A0of, va_up, List.length_nil, List.length_cons, List.getD_cons_zero, List.getD_cons_succ, List.getD_nil, if_true, if_false, Bool.not_not, Bool.not_true, Bool.not_false, Bool.false_eq_true, reduceIte, Nat.reduceSub, Nat.reduceAdd, Nat.reduceEqDiff]
  rw [run_rn]
  have := x_back_loop (tk := tk) (ps := ps) (f := f) (j := j) (mark := mark) 99999 ps.2.2.2 (A0of true [.int (nI mark)]) hq (by omega) (by omega) h2 rfl (run [zRet0] nk) nk nk
  have e : psFx ps ps.2.2.2 = ps := rfl
  rw [e] at this
  rw [this]
  simp only [amth_run, run_nil, run_seq, run_skip, run_ret0, run_ret, run_set, run_inc, run_ex, run_if, run_putF, run_opF, run_opU, run_putS, run_opS, run_add, run_at, run_atB, run_sw, kS_ok, kS_no, kE_ok, kE_no, kI_t, kI_f, kI_no, kPF_ok, kOF_ok, kPS_ok, kOS_ok, kAD_ok, kAD_no, kT1_ok, kT2_ok, kB1_ok, kB2_ok, kSw_ok, fin_ok, fin_b, fin_0, fin_1, fin_v, fin_no, fin_none]
end XBA
