/-! X: functions, declarations -/
section XDC
variable {tk : TK} {ps ps' ps2 : PS} {f f1 f' : FX} {j j1 j' j2 j0 : AS} {m n k k' : Nat} {A A' : AS} {LV : AL} {α : Type} {em : α → V} {fo : FX} {B : Nat}
theorem x_clauses {ty aq ap E : PA TR} {c : Nat} (htg : PGr tk ty) (hty : CoX false tk c 30 38 [] ty) (haq : CoX true tk c 60 30 [] aq) (hqa : PGt tk aq) (hap : CoX true tk c 60 30 [] ap) (hq : PGt tk ap) (hEg : PGr tk E) (hE : CoX false tk c 30 53 [.int 0] E) : CoX false tk (max c 5 + 4) 65 85 [] (grE tk (pClau tk ty aq ap E)) := by
  intro k ps f j B hk hP hB; have hP0 := hP; obtain ⟨ht, hps, ha, ho, hfr, hfl, hS⟩ := hP0; obtain ⟨n, rfl⟩ := suc1 (m := k) (by omega); have hf2 : 0 < (stX tk ps f j).fl := hfl; have ha2 : ps.1 ≤ tk.1.length := ha; have hA : ALM = 30000 := rfl
  obtain ⟨⟨o, base⟩, g⟩ := f
  refine ctx_grE ?_
  unfold pClau
  simp only [eX_clauses, zX_clauses, amth_run, List.length_nil, if_true, fin_ok]
  rw [run_seq, run_set, show ∀ (L : AL) (s : AS), aF 3 L s = some (some (.int (s.1 3)), s) from fun _ _ => rfl, kS_ok, sX_f3, run_seq, run_set, show ∀ (L : AL) (s : AS), aSz 13 L s = some (some (.int (nI (s.of 13 + (s.R 13).length))), s) from fun _ _ => rfl, kS_ok, sX_R13, sX_o13, run_seq, run_set, aK_e, kS_ok, run_seq, run_set, aK_e, kS_ok, run_seq, run_set, aK_e, kS_ok, run_seq, run_rn]
  have hP' : PRX tk ps ((o, base ++ ([] : List TR).map tv), g) j (n + 1) := by simpa using hP
  have := x_cls (em := tv) (fo := ((o, base), g)) (w1 := .int (nI ps.1)) (w2 := .int (nI (o + base.length))) htg hty haq hqa hap hq hEg hE (by omega) 99999 LF none [] ps j j (va_up (va_up (va_up (va_up (va_up (A0of true []) 1 (.int (nI ps.1))) 2 (.int (nI (o + base.length)))) 3 (.int (-1))) 4 (.int 0)) 5 (.int 1)) (run [(zSeq (zSet 6 (aCall (aX n) 89 [(aCall (aX n) 25 [(aL 2)]), (aL 4), (aL 1)])) (zRet (aCall (aX n) 21 [(aK 71), (aCall (aX n) 50 [(aL 3), (aL 1)]), (aL 6), (aK 1), (aL 1)])))] nk) nk nk (j.nn + 100 * (Tn tk - ps.1)) B (fun r ps2 => some (.inl ((71, tv (tVar r.1.1 (nI ps.1)), tv (tCur (tLi r.2) r.1.2 ps2.2.2.1 (nI ps.1)), .int 1, nI ps.1), (ps2.1, ps2.2.1, ps2.2.2.1 + r.1.2, ps2.2.2.2)))) (by decide) hP' (je.rf (W := false) j) (by intro q e; cases e) rfl rfl rfl rfl rfl (Nat.le_refl _) fun r ps' j' LV' r1 r2 r3 r4 r5 r6 r7 r8 r9 r10 r11 => ?_
  · simpa using this
  · rw [List.nil_append, fS_push, List.length_map] at r7
    obtain ⟨c1, c2, c3, c4, c5⟩ := id r1
    have el := x_list (tk := tk) (ps := ps') (j := j') (m := n) (by omega) (o := o) (base := base) (items := r.2) (g := g) (by omega) (by simp [fS] at r7 ⊢; omega) (by omega)
    obtain ⟨cc, k1, k2⟩ := x_curried (tk := tk) (ps := ps') (f := ((o, base), g)) (j := mkN j' r.2.length) (m := n) (l := r.2) (many := r.1.2) (p := nI ps.1) (by omega) (by omega) (by omega) (by simp only [fS] at r7; dsimp only; omega) (by rw [mkN_nn]; omega)
    have hfr2 : (ps'.1, ps'.2.1, ps'.2.2.1 + r.1.2, ps'.2.2.2).2.2.1 < 2 ^ 30 := by dsimp only; omega
    have ev := x_variable (tk := tk) (ps := (ps'.1, ps'.2.1, ps'.2.2.1 + r.1.2, ps'.2.2.2)) (f := ((o, base), g)) (j := mkN (mkN j' r.2.length) cc) (m := n) (i := r.1.1) (p := nI ps.1) (by omega) (by simp only [mkN_nn]; omega) (nm_ok r4.2 hfr2)
    have em := x_make (tk := tk) (ps := (ps'.1, ps'.2.1, ps'.2.2.1 + r.1.2, ps'.2.2.2)) (f := ((o, base), g)) (j := mkN (mkN (mkN j' r.2.length) cc) 1) (m := n) (k := 71) (p := nI ps.1) (a := tv (tVar r.1.1 (nI ps.1))) (b := tv (tCur (tLi r.2) r.1.2 ps'.2.2.1 (nI ps.1))) (c := .int 1) (by omega) (by simp only [mkN_nn]; omega) (by decide) rfl rfl rfl
    simp only [run_seq, run_set, run_ret, aCall, aArgs, aL, aK, ab_ok, A0of, va_up, List.length_nil, List.length_cons, List.getD_cons_zero, List.getD_cons_succ, List.getD_nil, if_true, if_false, Bool.not_not, Bool.not_true, Bool.not_false, Bool.false_eq_true, reduceIte, Nat.reduceSub, Nat.reduceAdd, Nat.reduceEqDiff, r8, r9, r10, r11, List.nil_append, el, k2, kS_ok, ev, em]
    refine ctx_ret (v := ((71, tv (tVar r.1.1 (nI ps.1)), tv (tCur (tLi r.2) r.1.2 ps'.2.2.1 (nI ps.1)), .int 1, nI ps.1) : TR)) (ps := (ps'.1, ps'.2.1, ps'.2.2.1 + r.1.2, ps'.2.2.2)) ((((r5.mk _).mk _).mk _).mk _) ?_
    simp only [mkN_nn]
    omega
theorem x_functions {ty aq ap E : PA TR} {c b : Nat} (htg : PGr tk ty) (hty : CoX false tk c 30 38 [] ty) (haq : CoX true tk c 60 30 [] aq) (hqa : PGt tk aq) (hap : CoX true tk c 60 30 [] ap) (hq : PGt tk ap) (hEg : PGr tk E) (hE : CoX false tk c 30 53 [.int 0] E) : CoX false tk (max c 5 + 5) 50 84 [.int (nI b)] (pFun tk ty aq ap E b) := by
  have hC := x_clauses htg hty haq hqa hap hq hEg hE
  intro k ps f j B hk hP hB; have hP0 := hP; obtain ⟨ht, hps, ha, ho, hfr, hfl, hS⟩ := hP0; obtain ⟨n, rfl⟩ := suc1 (m := k) (by omega); have hf2 : 0 < (stX tk ps f j).fl := hfl; have ha2 : ps.1 ≤ tk.1.length := ha; have hA : ALM = 30000 := rfl
  obtain ⟨⟨o, base⟩, g⟩ := f
  unfold pFun
  simp only [eX_functions, zX_functions, amth_run, List.length_cons, List.length_nil, if_true, fin_ok, run_seq, run_set]
  rw [aCall_1, aK_e, ab_ok, kS_ab]
  refine ctx_ste (x_typeVariables (q := true)) pgh_grD (by omega) hP (je.rf (W := false) j) fun vs ps1 j1 g1 hP1 hj1 hB1 => ?_
  rw [run_seq, run_set, show ∀ (L : AL) (s : AS), aSz 13 L s = some (some (.int (nI (s.of 13 + (s.R 13).length))), s) from fun _ _ => rfl, kS_ok, sX_R13, sX_o13, run_seq, run_set, aK_e, kS_ok, run_seq, run_rn]
  have hb : BodyM tk n o base g 2 (grE tk (pClau tk ty aq ap E)) (fun LV => LV 1 = .int (nI b) ∧ LV 2 = tLi vs ∧ LV 3 = .int (nI (o + base.length))) 4 (zSeq (zAdd 13 (aCall (aX n) 85 [])) (zSet 4 (aCall (aX n) 10 [(aK 2)]))) := by
    intro α em fo F don ps j j0 LV K B0 C0 B hP hj hI hK
    have hS := hP.2.2.2.2.2.2
    have hA : ALM = 30000 := rfl
    rw [rn_seq, rn_add, aCall_nil]
    refine ctx_st hC pgg_grE (by omega) (by omega) hP hj fun t ps1 j1 g1 hP1 hj1 hB1 => ?_
    obtain ⟨ht, hps, ha, ho, hfr, hfl, hS1⟩ := id hP1
    have hb1 : ps1.1 ≤ tk.1.length := ha
    have hlen : o + (base ++ don.map tv).length < ALM := by simp only [fS] at hS; omega
    have psh : ∀ z : TR, base ++ don.map tv ++ [tv z] = base ++ (don ++ [z]).map tv := by intro z; simp
    simp (disch := first | assumption | omega | (simp only [pr0_1, pr1_1, pr2_1, pr0_10, pr1_10, pr2_10, pr0_11, pr1_11, pr2_11, pr0_12, pr1_12, pr2_12, pr0_13, pr1_13, pr2_13, pr0_14, pr1_14, pr2_14, pr0_15, pr1_15, pr2_15, pr0_16, pr1_16, pr2_16, pr0_17, pr1_17, pr2_17, pr0_18, pr1_18, pr2_18, pr0_19, pr1_19, pr2_19, pr0_20, pr1_20, pr2_20, pr0_30, pr1_30, pr2_30, pr0_31, pr1_31, pr2_31, pr0_32, pr1_32, pr2_32, pr0_33, pr1_33, pr2_33, pr0_34, pr1_34, pr2_34, pr0_35, pr1_35, pr2_35, pr0_36, pr1_36, pr2_36, pr0_37, pr1_37, pr2_37, pr0_50, pr1_50, pr2_50, pr0_51, pr1_51, pr2_51, pr0_52, pr1_52, pr2_52, pr0_53, pr1_53, pr2_53, pr0_54, pr1_54, pr2_54, pr0_70, pr1_70, pr2_70, pr0_71, pr1_71, pr2_71, pr0_72, pr1_72, pr2_72, pr0_73, pr1_73, pr2_73, pr0_74, pr1_74, pr2_74, pr0_75, pr1_75, pr2_75, pr0_76, pr1_76, pr2_76, pr0_77, pr1_77, pr2_77, pr0_78, pr1_78, pr2_78, pr0_79, pr1_79, pr2_79, pr0_80, pr1_80, pr2_80, pr0_81, pr1_81, pr2_81, pr0_82, pr1_82, pr2_82, pr0_83, pr1_83, pr2_83, pr0_84, pr1_84, pr2_84, okF_tv, okF_no, okF_n1, okF_i, okLi, okOv, ok33] <;> assumption) | decide | (simp only [mkN_nn, mkN_fl, sX_fl, sX_nn, List.length_append, List.length_cons, List.length_nil, List.length_map]; omega) | (dsimp only; omega)) only [amth_eq, rn_seq, rn_if, rn_set, rn_inc, rn_ex, rn_ret, rn_ret0, rn_skip, rn_putF, rn_opF, rn_opU, rn_putS, rn_opS, rn_at, rn_atB, rn_add, rn_swap, rn_sw, rn_brk, rn_cnt, fin_ok, fin_ab, fin_ite, fin_og, fin_b, fin_0, fin_1, fin_v, fin_no, fin_none, d10, eq_self, decide_true, decide_false, ti_b, b2i_t, b2i_f, aK, aL, aF, aSz, aBin, aDiv, aB, aAt, aNd, aArgs, aCall, aIf, bCmp, bZ, bAnd, bOr, bNot, bTT, bIf, ab_ok, ab_no, ab_none, ab_ab, ab_ite, aok_ok, aok_none, og_ok, og_none, vbin_i, vb8_i, vput_i, vI_i, cmp_i, hold_eq, hold_ne, hold_lt, hold_ge, hold_gt, hold_le, b2i_0, ss_b, ss_ite, oAdd, oSub, oMul, Option.bind_some, A0of, va_up, List.length_nil, List.length_cons, List.getD_cons_zero, List.getD_cons_succ, List.getD_nil, if_true, if_false, Bool.not_not, Bool.not_true, Bool.not_false, Bool.false_eq_true, reduceIte, Nat.reduceSub, Nat.reduceAdd, Nat.reduceEqDiff, xa13, x_takes, psh]
    exact hK t ps1 j1 _ g1 hj1 (by omega) ⟨by simpa [va_up] using hI.1, by simpa [va_up] using hI.2.1, by simpa [va_up] using hI.2.2⟩ rfl
  have hP' : PRX tk ps1 ((o, base ++ ([] : List TR).map tv), g) j1 (n + 1) := by simpa using hP1
  have := x_more (em := tv) (fo := ((o, base), g)) hb 99999 LF [] ps1 j1 j (va_up (va_up (va_up (A0of true [.int (nI b)]) 2 (tLi vs)) 3 (.int (nI (o + base.length)))) 4 (.int 1)) (run [zRet (aCall (aX n) 21 [(aK 70), (aL 2), (aCall (aX n) 25 [(aL 3)]), (aK (-1)), (aL 1)])] nk) nk nk (j1.nn + 100 * (Tn tk - ps1.1)) B (fun l => pret (70, tLi vs, tLi l, no, nI b)) (by decide) hP' hj1 ⟨rfl, rfl, rfl⟩ rfl (Nat.le_refl _) fun ts ps' j' LV' r1 r2 r3 r4 r5 r6 => ?_
  · simpa using this
  · rw [List.nil_append, fS_push, List.length_map] at r5
    obtain ⟨m1, m2, m3⟩ := r6
    have el := x_list (tk := tk) (ps := ps') (j := j') (m := n) (by omega) (o := o) (base := base) (items := ts) (g := g) (by omega) (by simp [fS] at r5 ⊢; omega) (by omega)
    have okl := okLi vs
    have okl2 := okLi ts
    simp (disch := first | assumption | omega | (simp only [pr0_1, pr1_1, pr2_1, pr0_10, pr1_10, pr2_10, pr0_11, pr1_11, pr2_11, pr0_12, pr1_12, pr2_12, pr0_13, pr1_13, pr2_13, pr0_14, pr1_14, pr2_14, pr0_15, pr1_15, pr2_15, pr0_16, pr1_16, pr2_16, pr0_17, pr1_17, pr2_17, pr0_18, pr1_18, pr2_18, pr0_19, pr1_19, pr2_19, pr0_20, pr1_20, pr2_20, pr0_30, pr1_30, pr2_30, pr0_31, pr1_31, pr2_31, pr0_32, pr1_32, pr2_32, pr0_33, pr1_33, pr2_33, pr0_34, pr1_34, pr2_34, pr0_35, pr1_35, pr2_35, pr0_36, pr1_36, pr2_36, pr0_37, pr1_37, pr2_37, pr0_50, pr1_50, pr2_50, pr0_51, pr1_51, pr2_51, pr0_52, pr1_52, pr2_52, pr0_53, pr1_53, pr2_53, pr0_54, pr1_54, pr2_54, pr0_70, pr1_70, pr2_70, pr0_71, pr1_71, pr2_71, pr0_72, pr1_72, pr2_72, pr0_73, pr1_73, pr2_73, pr0_74, pr1_74, pr2_74, pr0_75, pr1_75, pr2_75, pr0_76, pr1_76, pr2_76, pr0_77, pr1_77, pr2_77, pr0_78, pr1_78, pr2_78, pr0_79, pr1_79, pr2_79, pr0_80, pr1_80, pr2_80, pr0_81, pr1_81, pr2_81, pr0_82, pr1_82, pr2_82, pr0_83, pr1_83, pr2_83, pr0_84, pr1_84, pr2_84, okF_tv, okF_no, okF_n1, okF_i, okLi, okOv, ok33] <;> assumption) | decide | (simp only [mkN_nn, mkN_fl, sX_fl, sX_nn, List.length_append, List.length_cons, List.length_nil, List.length_map]; omega) | (dsimp only; omega)) only [amth_run, run_nil, run_seq, run_skip, run_ret0, run_ret, run_set, run_inc, run_ex, run_if, run_putF, run_opF, run_opU, run_putS, run_opS, run_add, run_at, run_atB, run_sw, kS_ok, kS_no, kE_ok, kE_no, kI_t, kI_f, kI_no, kPF_ok, kOF_ok, kPS_ok, kOS_ok, kAD_ok, kAD_no, kT1_ok, kT2_ok, kB1_ok, kB2_ok, kSw_ok, fin_ok, fin_b, fin_0, fin_1, fin_v, fin_no, fin_none, d10, eq_self, decide_true, decide_false, ti_b, b2i_t, b2i_f, aK, aL, aF, aSz, aBin, aDiv, aB, aAt, aNd, aArgs, aCall, aIf, bCmp, bZ, bAnd, bOr, bNot, bTT, bIf, ab_ok, ab_no, ab_none, ab_ab, ab_ite, aok_ok, aok_none, og_ok, og_none, vbin_i, vb8_i, vput_i, vI_i, cmp_i, hold_eq, hold_ne, hold_lt, hold_ge, hold_gt, hold_le, b2i_0, ss_b, ss_ite, oAdd, oSub, oMul, Option.bind_some, A0of, va_up, List.length_nil, List.length_cons, List.getD_cons_zero, List.getD_cons_succ, List.getD_nil, if_true, if_false, Bool.not_not, Bool.not_true, Bool.not_false, Bool.false_eq_true, reduceIte, Nat.reduceSub, Nat.reduceAdd, Nat.reduceEqDiff, m1, m2, m3, List.nil_append, el, x_make]
    exact ctx_ret (v := (70, tLi vs, tLi ts, no, nI b)) ((r3.mk _).mk _) (by simp only [mkN_nn]; omega)
theorem ctx_pbE {β : Type} {W : Bool} {r : Option (Option V × AS)} {p : PA β} {F F' : β → PA α} (hF : ∀ v ps', PG tk ps ps' → F' v ps' = F v ps') (hN : ∀ v ps', ¬ PG tk ps ps' → F' v ps' = none) (h : CTx W em tk f j B r (pb p F' ps)) : CTx W em tk f j B r (pb (grE tk p) F ps) := by
  unfold pb grE at *
  cases hp : p ps with
  | none => exact trivial
  | some q =>
    rw [hp] at h
    match q, h with
    | .inr e, h => exact h
    | .inl (v, ps'), h =>
      dsimp only at h ⊢
      by_cases hg : PG tk ps ps'
      · rw [hF v ps' hg] at h
        simp only [hg, if_true]
        exact h
      · simp only [hg, if_false]
        exact trivial
end XDC
