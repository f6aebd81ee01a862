/-! X: a declaration -/
section XDE
variable {tk : TK} {ps ps' ps2 q : PS} {f f1 f' : FX} {j j1 j' j2 j0 : AS} {m n k k' : Nat} {A A' : AS} {LV : AL} {α : Type} {em : α → V} {fo : FX} {B B1 : Nat} {o : Nat} {row : List V} {gg : (Nat × List V) × (Nat × List V)}
theorem sel8 {v : Int32} (h29 : ¬ v = 29) (h12 : ¬ v = 12) (h28 : ¬ v = 28) (h6 : ¬ v = 6) (h1 : ¬ v = 1) (h10 : ¬ v = 10) (h19 : ¬ v = 19) (h23 : ¬ v = 23) : (selT 8 1 29 [4, 8, 8, 8, 8, 3, 8, 8, 8, 5, 8, 1, 8, 8, 8, 8, 8, 8, 6, 8, 8, 8, 7, 8, 8, 8, 8, 2, 0]) v = 8 := by
  have key : ∀ k : Fin 29, ([4, 8, 8, 8, 8, 3, 8, 8, 8, 5, 8, 1, 8, 8, 8, 8, 8, 8, 6, 8, 8, 8, 7, 8, 8, 8, 8, 2, 0] : List Nat).getD k.val 8 = 8 ∨ k.val = 28 ∨ k.val = 11 ∨ k.val = 27 ∨ k.val = 5 ∨ k.val = 0 ∨ k.val = 9 ∨ k.val = 18 ∨ k.val = 22 := by decide
  have a1 := sel_ne (i := 29) (a := 29) rfl h29
  have a2 := sel_ne (i := 12) (a := 12) rfl h12
  have a3 := sel_ne (i := 28) (a := 28) rfl h28
  have a4 := sel_ne (i := 6) (a := 6) rfl h6
  have a5 := sel_ne (i := 1) (a := 1) rfl h1
  have a6 := sel_ne (i := 10) (a := 10) rfl h10
  have a7 := sel_ne (i := 19) (a := 19) rfl h19
  have a8 := sel_ne (i := 23) (a := 23) rfl h23
  unfold selT
  split
  · rfl
  · rcases key ⟨(v.toInt - 1).toNat, by omega⟩ with h | h
    · exact h
    · dsimp only at h
      omega
theorem og_ab (r : Option AS) (h : AS → Option (Option V × AS)) (g : V → AS → Option (Option V × AS)) : ab (og r h) g = og r fun A => ab (h A) g := by
  cases r <;> rfl
/-- a declaration is laid down, or none -/
def DecX (tk : TK) (n o : Nat) (gg : (Nat × List V) × (Nat × List V)) (dec : PA (Option TR)) : Prop :=
  ∀ (α : Type) (em : α → V) (fo : FX) (B : Nat) (row : List V) (ps : PS) (j j0 : AS) (F : Option TR → PA α) (g : V → AS → Option (Option V × AS)), PRX tk ps ((o, row), gg) j (n + 1) → je false j0 j →
    (∀ (t : Option TR) ps' j', PG tk ps ps' → je false j0 j' → j'.nn + 100 * (Tn tk - ps'.1) + 20 ≤ j.nn + 100 * (Tn tk - ps.1) → CTx false em tk fo j0 B (g (.int 0) (stX tk ps' ((o, row ++ t.toList.map tv), gg) j')) (F t ps')) →
    CTx false em tk fo j0 B (ab (aX n 14 [] (stX tk ps ((o, row), gg) j)) g) (pb dec F ps)
theorem dec_T {r : Option (Option V × AS)} {p : PA TR} {F : Option TR → PA α} {g : AS → Option (Option V × AS)} (hA : o + row.length < ALM) (hj : je false j0 j) (hc : CTx false tv tk ((o, row), gg) j B1 r (p q))
    (hK : ∀ (t : Option TR) ps' j', je false j0 j' → j'.nn + 100 * (Tn tk - ps'.1) ≤ B1 + 1 → CTx false em tk fo j0 B (g (stX tk ps' ((o, row ++ t.toList.map tv), gg) j')) (F t ps')) :
    CTx false em tk fo j0 B (ab r fun v A => og (vadd A 13 v) fun A => g A) (pb (pb p fun t => pret (some t)) F q) := by
  rw [pb_pb]
  refine ctx_bind hj hc fun v ps' j' _ h1 h2 => ?_
  rw [xa13 hA, og_ok, pret_pb]
  exact hK (some v) ps' j' h1 (by omega)
theorem dec_L {r : Option (Option V × AS)} {p : PA (List TR)} {k b : Int32} {F : Option TR → PA α} {g : AS → Option (Option V × AS)} (hA : o + row.length < ALM) (hn : 1 ≤ n) (hk : ¬ (k = 11 ∨ k = 32)) (h0 : (prt k).testBit 0 = true) (hR : B1 < ALM) (hj : je false j0 j) (hc : CTx false tLi tk ((o, row), gg) j B1 r (p q))
    (hK : ∀ (t : Option TR) ps' j', je false j0 j' → j'.nn + 100 * (Tn tk - ps'.1) ≤ B1 + 1 → CTx false em tk fo j0 B (g (stX tk ps' ((o, row ++ t.toList.map tv), gg) j')) (F t ps')) :
    CTx false em tk fo j0 B (ab r fun l A => ab (aX n 21 [.int k, l, .int (-1), .int (-1), .int b] A) fun v A => og (vadd A 13 v) fun A => g A) (pb (pb p fun l => pret (some (k, tLi l, no, no, b))) F q) := by
  rw [pb_pb]
  refine ctx_bind hj hc fun l ps' j' _ h1 h2 => ?_
  rw [x_make hn (by omega) hk (by rw [h0]; exact okLi l) (by cases (prt k).testBit 1 <;> rfl) (by cases (prt k).testBit 2 <;> rfl), ab_ok, xa13 hA, og_ok, pret_pb]
  exact hK (some (k, tLi l, no, no, b)) ps' (mkN j' 1) (h1.mk _) (by rw [mkN_nn]; omega)
theorem x_dec {ty pat aq ap E D : PA TR} {c : Nat} (htg : PGr tk ty) (hty : CoX false tk c 30 38 [] ty) (hpg : PGr tk pat) (hpt : CoX false tk c 30 26 [] pat) (haq : CoX true tk c 60 30 [] aq) (hqa : PGt tk aq) (hap : CoX true tk c 60 30 [] ap) (hq : PGt tk ap) (hEg : PGr tk E) (hE : CoX false tk c 30 53 [.int 0] E) (hDg : PGh tk D) (hD : CoD tv tk c 78 [] D) (hn : max c 5 + 6 ≤ n) : DecX tk n o gg (pDec tk ty pat aq ap E D) := by
  intro α em fo B row ps j j0 F g hP hj hK
  refine ctx_pbE (F' := fun v ps' => @ite _ (PG tk ps ps') (Classical.propDecidable _) (F v ps') none) (fun v ps' h => if_pos h) (fun v ps' h => if_neg h) ?_
  have hK' : ∀ (t : Option TR) ps' j', je false j0 j' → j'.nn + 100 * (Tn tk - ps'.1) + 20 ≤ j.nn + 100 * (Tn tk - ps.1) → CTx false em tk fo j0 B (g (.int 0) (stX tk ps' ((o, row ++ t.toList.map tv), gg) j')) ((fun v ps' => @ite _ (PG tk ps ps') (Classical.propDecidable _) (F v ps') none) t ps') := by
    intro t ps' j' h1 h2
    by_cases h : PG tk ps ps'
    · simp only [h, if_true]
      exact hK t ps' j' h h1 h2
    · simp only [h, if_false]
      exact trivial
  generalize (fun v ps' => @ite _ (PG tk ps ps') (Classical.propDecidable _) (F v ps') none) = F' at hK' ⊢
  obtain ⟨n, rfl⟩ := suc1 (m := n) (by omega)
  have hP' := hP.dn
  obtain ⟨ht, hps, ha, ho, hfr, hfl, hS⟩ := id hP'
  have hA : ALM = 30000 := rfl
  have hlen : o + row.length < ALM := by simp only [fS] at hS; omega
  by_cases hlt : ps.1 < Tn tk
  · have hlt' : ps.1 < tk.1.length := hlt
    have ev : ∀ L : AL, aCall (aX n) 12 [] L (stX tk ps ((o, row), gg) j) = some (some (.int (vAt tk ps.1)), stX tk ps ((o, row), gg) j) := by
      intro L
      simp (disch := first | assumption | omega | (simp only [pr0_1, pr1_1, pr2_1, pr0_10, pr1_10, pr2_10, pr0_11, pr1_11, pr2_11, pr0_12, pr1_12, pr2_12, pr0_13, pr1_13, pr2_13, pr0_14, pr1_14, pr2_14, pr0_15, pr1_15, pr2_15, pr0_16, pr1_16, pr2_16, pr0_17, pr1_17, pr2_17, pr0_18, pr1_18, pr2_18, pr0_19, pr1_19, pr2_19, pr0_20, pr1_20, pr2_20, pr0_30, pr1_30, pr2_30, pr0_31, pr1_31, pr2_31, pr0_32, pr1_32, pr2_32, pr0_33, pr1_33, pr2_33, pr0_34, pr1_34, pr2_34, pr0_35, pr1_35, pr2_35, pr0_36, pr1_36, pr2_36, pr0_37, pr1_37, pr2_37, pr0_50, pr1_50, pr2_50, pr0_51, pr1_51, pr2_51, pr0_52, pr1_52, pr2_52, pr0_53, pr1_53, pr2_53, pr0_54, pr1_54, pr2_54, pr0_70, pr1_70, pr2_70, pr0_71, pr1_71, pr2_71, pr0_72, pr1_72, pr2_72, pr0_73, pr1_73, pr2_73, pr0_74, pr1_74, pr2_74, pr0_75, pr1_75, pr2_75, pr0_76, pr1_76, pr2_76, pr0_77, pr1_77, pr2_77, pr0_78, pr1_78, pr2_78, pr0_79, pr1_79, pr2_79, pr0_80, pr1_80, pr2_80, pr0_81, pr1_81, pr2_81, pr0_82, pr1_82, pr2_82, pr0_83, pr1_83, pr2_83, pr0_84, pr1_84, pr2_84, okF_tv, okF_no, okF_n1, okF_i, okLi, okOv, ok33] <;> assumption) | decide | (simp only [mkN_nn, mkN_fl, sX_fl, sX_nn, List.length_append, List.length_cons, List.length_nil, List.length_map]; omega) | (dsimp only; omega)) only [d10, eq_self, decide_true, decide_false, ti_b, b2i_t, b2i_f, aK, aL, aF, aSz, aBin, aDiv, aB, aAt, aNd, aArgs, aCall, aIf, bCmp, bZ, bAnd, bOr, bNot, bTT, bIf, ab_ok, ab_no, ab_none, ab_ab, ab_ite, aok_ok, aok_none, og_ok, og_none, vbin_i, vb8_i, vput_i, vI_i, cmp_i, hold_eq, hold_ne, hold_lt, hold_ge, hold_gt, hold_le, b2i_0, ss_b, ss_ite, oAdd, oSub, oMul, Option.bind_some, A0of, va_up, List.length_nil, List.length_cons, List.getD_cons_zero, List.getD_cons_succ, List.getD_nil, if_true, if_false, Bool.not_not, Bool.not_true, Bool.not_false, Bool.false_eq_true, reduceIte, Nat.reduceSub, Nat.reduceAdd, Nat.reduceEqDiff, x_value]
    have ec : ∀ L : AL, L 2 = .int (vAt tk ps.1) → (bOr (bCmp .eq (aL 2) (aK 1)) (bCmp .eq (aL 2) (aK 19))) L (stX tk ps ((o, row), gg) j) = some (some (decide (vAt tk ps.1 = 1) || decide (vAt tk ps.1 = 19)), stX tk ps ((o, row), gg) j) := by
      intro L l2
      cases h1 : decide (vAt tk ps.1 = 1) <;> cases h2 : decide (vAt tk ps.1 = 19) <;> simp only [d10, eq_self, decide_true, decide_false, ti_b, b2i_t, b2i_f, aK, aL, aF, aSz, aBin, aDiv, aB, aAt, aNd, aArgs, aCall, aIf, bCmp, bZ, bAnd, bOr, bNot, bTT, bIf, ab_ok, ab_no, ab_none, ab_ab, ab_ite, aok_ok, aok_none, og_ok, og_none, vbin_i, vb8_i, vput_i, vI_i, cmp_i, hold_eq, hold_ne, hold_lt, hold_ge, hold_gt, hold_le, b2i_0, ss_b, ss_ite, oAdd, oSub, oMul, Option.bind_some, A0of, va_up, List.length_nil, List.length_cons, List.getD_cons_zero, List.getD_cons_succ, List.getD_nil, if_true, if_false, Bool.not_not, Bool.not_true, Bool.not_false, Bool.false_eq_true, reduceIte, Nat.reduceSub, Nat.reduceAdd, Nat.reduceEqDiff, l2, h1, h2, Bool.true_or, Bool.false_or]
    have sw : ∀ (i : Nat) (L : AL) (A : AS), L 2 = .int (vAt tk ps.1) → (selT 8 1 29 [4, 8, 8, 8, 8, 3, 8, 8, 8, 5, 8, 1, 8, 8, 8, 8, 8, 8, 6, 8, 8, 8, 7, 8, 8, 8, 8, 2, 0]) (vAt tk ps.1) = i → ab (run [(zSw (aL 2) fun v => ([(zSeq (zAdd 13 (aCall (aX n) 18 [(aL 1)])) zBrk), (zSeq (zAdd 13 (aCall (aX n) 84 [(aL 1)])) zBrk), (zSeq (zAdd 13 (aCall (aX n) 21 [(aK 72), (aCall (aX n) 90 []), (aK (-1)), (aK (-1)), (aL 1)])) zBrk), (zSeq (zAdd 13 (aCall (aX n) 92 [(aL 1)])) zBrk), (zSeq (zAdd 13 (aCall (aX n) 98 [(aL 1)])) zBrk), (zSeq (zAdd 13 (aCall (aX n) 21 [(aK 79), (aCall (aX n) 99 []), (aK (-1)), (aK (-1)), (aL 1)])) zBrk), (zSeq (zAdd 13 (aCall (aX n) 100 [(aL 1)])) zBrk), (zSeq (zAdd 13 (aCall (aX n) 21 [(aK 83), (aCall (aX n) 103 []), (aK (-1)), (aK (-1)), (aL 1)])) zBrk), (zSeq (zEx (aCall (aX n) 104 [(aL 2)])) zBrk)] : List ZX).getD ((selT 8 1 29 [4, 8, 8, 8, 8, 3, 8, 8, 8, 5, 8, 1, 8, 8, 8, 8, 8, 8, 6, 8, 8, 8, 7, 8, 8, 8, 8, 2, 0]) v) zSkip), zRet0] nk L A) (fun _ A => g (.int 0) A) = ab (rn ((([(zSeq (zAdd 13 (aCall (aX n) 18 [(aL 1)])) zBrk), (zSeq (zAdd 13 (aCall (aX n) 84 [(aL 1)])) zBrk), (zSeq (zAdd 13 (aCall (aX n) 21 [(aK 72), (aCall (aX n) 90 []), (aK (-1)), (aK (-1)), (aL 1)])) zBrk), (zSeq (zAdd 13 (aCall (aX n) 92 [(aL 1)])) zBrk), (zSeq (zAdd 13 (aCall (aX n) 98 [(aL 1)])) zBrk), (zSeq (zAdd 13 (aCall (aX n) 21 [(aK 79), (aCall (aX n) 99 []), (aK (-1)), (aK (-1)), (aL 1)])) zBrk), (zSeq (zAdd 13 (aCall (aX n) 100 [(aL 1)])) zBrk), (zSeq (zAdd 13 (aCall (aX n) 21 [(aK 83), (aCall (aX n) 103 []), (aK (-1)), (aK (-1)), (aL 1)])) zBrk), (zSeq (zEx (aCall (aX n) 104 [(aL 2)])) zBrk)] : List ZX).getD i zSkip) L A) (fun L A => some (some (.int 0), A)) (fun L A => some (some (.int 0), A)) nk) (fun _ A => g (.int 0) A) := by
      intro i L A l2 hi
      rw [run_rn, rn_sw, aL_e, ab_ok, l2, vI_i]
      dsimp only
      rw [hi]
      rfl
    simp only [eX_dec, zX_dec, amth_run, List.length_nil, if_true, fin_void, ab_ab, ab_ok]
    rw [run_seq, run_set, show ∀ (L : AL) (s : AS), aF 3 L s = some (some (.int (s.1 3)), s) from fun _ _ => rfl, kS_ok, sX_f3, run_seq, run_set, ev, kS_ok, run_seq, run_if, ec _ rfl]
    by_cases he : vAt tk ps.1 = 1 ∨ vAt tk ps.1 = 19
    · have hec : (decide (vAt tk ps.1 = 1) || decide (vAt tk ps.1 = 19)) = true := by
        rcases he with h | h <;> rw [h] <;> decide
      rw [hec, kI_t, run_ex, aCall_nil, kE_ab, ab_ab, pb_at (p' := pEnter (pAdv tk (if vAt tk ps.1 = 29 then pb (pValD tk pat E ps.1) (fun t => pret (some t))
     else if vAt tk ps.1 = 12 then pb (pFun tk ty aq ap E ps.1) (fun t => pret (some t))
     else if vAt tk ps.1 = 28 then pb (pTbs tk ty) (fun l => pret (some (72, tLi l, no, no, nI ps.1)))
     else if vAt tk ps.1 = 6 then pb (pDat tk ty ps.1) (fun t => pret (some t))
     else if vAt tk ps.1 = 1 then pb (pAbs tk ty D ps.1) (fun t => pret (some t))
     else if vAt tk ps.1 = 10 then pb (pExs tk ty) (fun l => pret (some (79, tLi l, no, no, nI ps.1)))
     else if vAt tk ps.1 = 19 then pb (pLoc tk D ps.1) (fun t => pret (some t))
     else if vAt tk ps.1 = 23 then pb (grE tk (pOpn tk LF)) (fun l => pret (some (83, tLi l, no, no, nI ps.1)))
     else pb (pDir tk (vAt tk ps.1)) (fun _ => pret none)))) (ps' := ps) (by rw [if_pos he]), pEnter_pb, pAdv_pb]
      refine ctx_enter (by omega) hP' hj fun hop => ?_
      refine ctx_adv fun _ => ?_
      have hPq := hP'.op hop hlt
      have hPn := hPq.dn
      rw [run_seq, run_opF, aK_e, kOF_ok, sX_f3, show oAdd (nI ps.1) 1 = nI (ps.1 + 1) from nI_1 _, sX_p3, run_seq]
      rcases he with h | h
      · rw [sw 4 _ _ rfl (by rw [h]; decide)]
        simp only [List.getD_cons_succ, List.getD_cons_zero, rn_seq, rn_add, rn_brk, aCall_1, aL_e, ab_ok, A0of, va_up, List.length_nil, List.length_cons, List.getD_cons_zero, List.getD_cons_succ, List.getD_nil, if_true, if_false, Bool.not_not, Bool.not_true, Bool.not_false, Bool.false_eq_true, reduceIte, Nat.reduceSub, Nat.reduceAdd, Nat.reduceEqDiff, ab_ab, og_ab]
        rw [if_neg (by rw [h]; decide), if_neg (by rw [h]; decide), if_neg (by rw [h]; decide), if_neg (by rw [h]; decide), if_pos h]
        refine dec_T hlen hj (x_abstype htg hty hDg hD n _ _ j (j.nn + 100 * (Tn tk - (ps.1 + 1))) (by omega) hPn (Nat.le_add_left _ _) (by dsimp only; omega)) fun t ps' j' h1 h2 => hK' t ps' j' h1 (by omega)
      · rw [sw 6 _ _ rfl (by rw [h]; decide)]
        simp only [List.getD_cons_succ, List.getD_cons_zero, rn_seq, rn_add, rn_brk, aCall_1, aL_e, ab_ok, A0of, va_up, List.length_nil, List.length_cons, List.getD_cons_zero, List.getD_cons_succ, List.getD_nil, if_true, if_false, Bool.not_not, Bool.not_true, Bool.not_false, Bool.false_eq_true, reduceIte, Nat.reduceSub, Nat.reduceAdd, Nat.reduceEqDiff, ab_ab, og_ab]
        rw [if_neg (by rw [h]; decide), if_neg (by rw [h]; decide), if_neg (by rw [h]; decide), if_neg (by rw [h]; decide), if_neg (by rw [h]; decide), if_neg (by rw [h]; decide), if_pos h]
        refine dec_T hlen hj (x_local hDg hD n _ _ j (j.nn + 100 * (Tn tk - (ps.1 + 1))) (by omega) hPn (Nat.le_add_left _ _) (by dsimp only; omega) (by dsimp only; omega)) fun t ps' j' h1 h2 => hK' t ps' j' h1 (by omega)
    · have hec : (decide (vAt tk ps.1 = 1) || decide (vAt tk ps.1 = 19)) = false := by
        simp only [not_or] at he
        simp [he.1, he.2]
      rw [hec, kI_f, run_skip, pb_at (p' := pAdv tk (if vAt tk ps.1 = 29 then pb (pValD tk pat E ps.1) (fun t => pret (some t))
     else if vAt tk ps.1 = 12 then pb (pFun tk ty aq ap E ps.1) (fun t => pret (some t))
     else if vAt tk ps.1 = 28 then pb (pTbs tk ty) (fun l => pret (some (72, tLi l, no, no, nI ps.1)))
     else if vAt tk ps.1 = 6 then pb (pDat tk ty ps.1) (fun t => pret (some t))
     else if vAt tk ps.1 = 1 then pb (pAbs tk ty D ps.1) (fun t => pret (some t))
     else if vAt tk ps.1 = 10 then pb (pExs tk ty) (fun l => pret (some (79, tLi l, no, no, nI ps.1)))
     else if vAt tk ps.1 = 19 then pb (pLoc tk D ps.1) (fun t => pret (some t))
     else if vAt tk ps.1 = 23 then pb (grE tk (pOpn tk LF)) (fun l => pret (some (83, tLi l, no, no, nI ps.1)))
     else pb (pDir tk (vAt tk ps.1)) (fun _ => pret none))) (ps' := ps) (by rw [if_neg he]), pAdv_pb]
      refine ctx_adv fun _ => ?_
      rw [run_seq, run_opF, aK_e, kOF_ok, sX_f3, show oAdd (nI ps.1) 1 = nI (ps.1 + 1) from nI_1 _, sX_p3, run_seq]
      simp only [not_or] at he
      have hPq : PRX tk (ps.1 + 1, ps.2) ((o, row), gg) j (n + 1) := hP'.one hlt
      have hPn := hPq.dn
      have hSn := hPn.2.2.2.2.2.2
      dsimp only at hSn
      by_cases h29 : vAt tk ps.1 = 29
      · rw [sw 0 _ _ rfl (by rw [h29]; decide)]
        simp only [List.getD_cons_succ, List.getD_cons_zero, rn_seq, rn_add, rn_brk, aCall_1, aL_e, ab_ok, A0of, va_up, List.length_nil, List.length_cons, List.getD_cons_zero, List.getD_cons_succ, List.getD_nil, if_true, if_false, Bool.not_not, Bool.not_true, Bool.not_false, Bool.false_eq_true, reduceIte, Nat.reduceSub, Nat.reduceAdd, Nat.reduceEqDiff, ab_ab, og_ab]
        rw [if_pos h29]
        exact dec_T hlen hj (x_valDec hpg hpt hEg hE n _ _ j (j.nn + 100 * (Tn tk - (ps.1 + 1))) (by omega) hPn (by dsimp only; omega)) fun t ps' j' h1 h2 => hK' t ps' j' h1 (by omega)
      · rw [if_neg h29]
        by_cases h12 : vAt tk ps.1 = 12
        · rw [sw 1 _ _ rfl (by rw [h12]; decide)]
          simp only [List.getD_cons_succ, List.getD_cons_zero, rn_seq, rn_add, rn_brk, aCall_1, aL_e, ab_ok, A0of, va_up, List.length_nil, List.length_cons, List.getD_cons_zero, List.getD_cons_succ, List.getD_nil, if_true, if_false, Bool.not_not, Bool.not_true, Bool.not_false, Bool.false_eq_true, reduceIte, Nat.reduceSub, Nat.reduceAdd, Nat.reduceEqDiff, ab_ab, og_ab]
          rw [if_pos h12]
          exact dec_T hlen hj (x_functions htg hty haq hqa hap hq hEg hE n _ _ j (j.nn + 100 * (Tn tk - (ps.1 + 1))) (by omega) hPn (by dsimp only; omega)) fun t ps' j' h1 h2 => hK' t ps' j' h1 (by omega)
        · rw [if_neg h12]
          by_cases h28 : vAt tk ps.1 = 28
          · rw [sw 2 _ _ rfl (by rw [h28]; decide)]
            simp only [List.getD_cons_succ, List.getD_cons_zero, rn_seq, rn_add, rn_brk, aCall, aArgs, aK, aL, ab_ok, A0of, va_up, List.length_nil, List.length_cons, List.getD_cons_zero, List.getD_cons_succ, List.getD_nil, if_true, if_false, Bool.not_not, Bool.not_true, Bool.not_false, Bool.false_eq_true, reduceIte, Nat.reduceSub, Nat.reduceAdd, Nat.reduceEqDiff, ab_ab, og_ab]
            rw [if_pos h28]
            exact dec_L hlen (by omega) (by decide) (by decide) (by omega) hj (x_typeBindings htg hty n _ _ j (j.nn + 100 * (Tn tk - (ps.1 + 1))) (by omega) hPn (by dsimp only; omega)) fun t ps' j' h1 h2 => hK' t ps' j' h1 (by omega)
          · rw [if_neg h28]
            by_cases h6 : vAt tk ps.1 = 6
            · rw [sw 3 _ _ rfl (by rw [h6]; decide)]
              simp only [List.getD_cons_succ, List.getD_cons_zero, rn_seq, rn_add, rn_brk, aCall_1, aL_e, ab_ok, A0of, va_up, List.length_nil, List.length_cons, List.getD_cons_zero, List.getD_cons_succ, List.getD_nil, if_true, if_false, Bool.not_not, Bool.not_true, Bool.not_false, Bool.false_eq_true, reduceIte, Nat.reduceSub, Nat.reduceAdd, Nat.reduceEqDiff, ab_ab, og_ab]
              rw [if_pos h6]
              exact dec_T hlen hj (x_datatype htg hty n _ _ j (j.nn + 100 * (Tn tk - (ps.1 + 1))) (by omega) hPn (by dsimp only; omega)) fun t ps' j' h1 h2 => hK' t ps' j' h1 (by omega)
            · rw [if_neg h6, if_neg he.1]
              by_cases h10 : vAt tk ps.1 = 10
              · rw [sw 5 _ _ rfl (by rw [h10]; decide)]
                simp only [List.getD_cons_succ, List.getD_cons_zero, rn_seq, rn_add, rn_brk, aCall, aArgs, aK, aL, ab_ok, A0of, va_up, List.length_nil, List.length_cons, List.getD_cons_zero, List.getD_cons_succ, List.getD_nil, if_true, if_false, Bool.not_not, Bool.not_true, Bool.not_false, Bool.false_eq_true, reduceIte, Nat.reduceSub, Nat.reduceAdd, Nat.reduceEqDiff, ab_ab, og_ab]
                rw [if_pos h10]
                exact dec_L hlen (by omega) (by decide) (by decide) (by omega) hj (x_exceptions htg hty n _ _ j (j.nn + 100 * (Tn tk - (ps.1 + 1))) (by omega) hPn (by dsimp only; omega)) fun t ps' j' h1 h2 => hK' t ps' j' h1 (by omega)
              · rw [if_neg h10, if_neg he.2]
                by_cases h23 : vAt tk ps.1 = 23
                · rw [sw 7 _ _ rfl (by rw [h23]; decide)]
                  simp only [List.getD_cons_succ, List.getD_cons_zero, rn_seq, rn_add, rn_brk, aCall, aArgs, aK, aL, ab_ok, A0of, va_up, List.length_nil, List.length_cons, List.getD_cons_zero, List.getD_cons_succ, List.getD_nil, if_true, if_false, Bool.not_not, Bool.not_true, Bool.not_false, Bool.false_eq_true, reduceIte, Nat.reduceSub, Nat.reduceAdd, Nat.reduceEqDiff, ab_ab, og_ab]
                  rw [if_pos h23]
                  exact dec_L hlen (by omega) (by decide) (by decide) (by omega) hj (x_opened n _ _ j (j.nn + 100 * (Tn tk - (ps.1 + 1))) (by omega) hPn (by dsimp only; omega)) fun t ps' j' h1 h2 => hK' t ps' j' h1 (by omega)
                · have hs := sel8 h29 h12 h28 h6 he.1 h10 he.2 h23
                  rw [sw 8 _ _ rfl hs, if_neg h23, pb_pb]
                  simp only [List.getD_cons_succ, List.getD_cons_zero, rn_seq, rn_ex, rn_brk, aCall_1, aL_e, ab_ok, A0of, va_up, List.length_nil, List.length_cons, List.getD_cons_zero, List.getD_cons_succ, List.getD_nil, if_true, if_false, Bool.not_not, Bool.not_true, Bool.not_false, Bool.false_eq_true, reduceIte, Nat.reduceSub, Nat.reduceAdd, Nat.reduceEqDiff, ab_ab, og_ab]
                  refine ctx_bind hj (x_directive n _ _ j (j.nn + 100 * (Tn tk - (ps.1 + 1))) (by omega) hPn (by dsimp only; omega)) fun _ ps' j' _ h1 h2 => ?_
                  rw [pret_pb]
                  have := hK' none ps' j' h1 (by omega)
                  simpa using this
  · have hv : vAt tk ps.1 = 0 := by
      unfold vAt
      refine getD_out ?_
      rw [ht.1]
      exact Nat.not_lt.mp hlt
    have e : pb (fun ps => (fun p : PA (Option TR) => if vAt tk ps.1 = 1 ∨ vAt tk ps.1 = 19 then pEnter (pAdv tk p) ps else pAdv tk p ps) (if vAt tk ps.1 = 29 then pb (pValD tk pat E ps.1) (fun t => pret (some t))
     else if vAt tk ps.1 = 12 then pb (pFun tk ty aq ap E ps.1) (fun t => pret (some t))
     else if vAt tk ps.1 = 28 then pb (pTbs tk ty) (fun l => pret (some (72, tLi l, no, no, nI ps.1)))
     else if vAt tk ps.1 = 6 then pb (pDat tk ty ps.1) (fun t => pret (some t))
     else if vAt tk ps.1 = 1 then pb (pAbs tk ty D ps.1) (fun t => pret (some t))
     else if vAt tk ps.1 = 10 then pb (pExs tk ty) (fun l => pret (some (79, tLi l, no, no, nI ps.1)))
     else if vAt tk ps.1 = 19 then pb (pLoc tk D ps.1) (fun t => pret (some t))
     else if vAt tk ps.1 = 23 then pb (grE tk (pOpn tk LF)) (fun l => pret (some (83, tLi l, no, no, nI ps.1)))
     else pb (pDir tk (vAt tk ps.1)) (fun _ => pret none))) F' ps = none := by
      unfold pb
      dsimp only
      rw [if_neg (by rw [hv]; decide)]
      unfold pAdv
      rw [if_neg hlt]
    rw [e]
    exact trivial
end XDE
