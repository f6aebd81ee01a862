/-! X: items with a sign between; brackets of types -/
theorem pret_pb {α β : Type} (v : α) (F : α → PA β) : pb (pret v) F = F v := rfl
section XSP
variable {tk : TK} {ps ps' : PS} {f f' : FX} {j j' : AS} {m n k k' : Nat} {A : AS} {W : Bool}
theorem PGe.rf (hps : psOK ps.2.2.2) (ha : ps.1 ≤ Tn tk) : PGe tk ps ps := ⟨Nat.le_refl _, ha, rfl, Nat.le_refl _, hps⟩
theorem x_seps_loop {α : Type} {em : α → V} {fo : FX} {o : Nat} {base : List V} {g : (Nat × List V) × (Nat × List V)} {s : Int32} {p : PA TR} {av : AX} {tg : Nat} {vs : List V} (hn : 3 ≤ n) (hpg : PGr tk p) {LV : AL} (hav : ∀ A, av LV A = aX n tg vs A) {cnd : BX} (hcnd : ∀ A, cnd LV A = bZ .ne (aCall (aX n) 10 [(aK s)]) LV A)
    (hv : ∀ ps f j B, PRX tk ps f j n → j.nn + 100 * (Tn tk - ps.1) ≤ B + 30 → CTx W tv tk f j B (aX n tg vs (stX tk ps f j)) (p ps)) (N : Nat) :
    ∀ (M : Nat) (don : List TR) (ps : PS) (j j0 : AS) (K B0 C0 : KT) (B1 B : Nat) (F : List TR → PA α), M ≤ N → PRX tk ps ((o, base ++ don.map tv), g) j (n + 1) → je W j0 j → j.nn + 100 * (Tn tk - ps.1) ≤ B1 →
    (∀ ts ps' j', PGe tk ps ps' → ps.1 + ts.length ≤ ps'.1 → (sg tk ps.1 s = true → 1 ≤ ts.length) → je W j0 j' → j'.nn + 100 * (Tn tk - ps'.1) + 20 * ts.length ≤ B1 → fS ((o, base ++ (don ++ ts).map tv), g) + j'.nn + 8 * (n + 1) + 100 * (Tn tk - ps'.1) ≤ 29000 → CTx W em tk fo j0 B (K LV (stX tk ps' ((o, base ++ (don ++ ts).map tv), g) j')) (F ts ps')) →
    CTx W em tk fo j0 B (rn (zWh (N + 1) cnd (zAdd 13 av) zSkip LV (stX tk ps ((o, base ++ don.map tv), g) j)) K B0 C0) (pb (pSeps tk s p M) F ps) := by
  induction N with
  | zero =>
    intro M don ps j j0 K B0 C0 B1 B F hM
    have : M = 0 := by omega
    subst this
    intros
    exact trivial
  | succ N ih =>
    intro M don ps j j0 K B0 C0 B1 B F hM hP hj hB hK
    cases M with
    | zero => exact trivial
    | succ M =>
      obtain ⟨ht, hps, ha, ho, hfr, hfl, hS⟩ := id hP
      have ha2 : ps.1 ≤ tk.1.length := ha
      have hA : ALM = 30000 := rfl
      rw [rn_wh, hcnd]
      simp (disch := first | assumption | omega | (simp only [pr0_1, pr1_1, pr2_1, pr0_10, pr1_10, pr2_10, pr0_11, pr1_11, pr2_11, pr0_12, pr1_12, pr2_12, pr0_13, pr1_13, pr2_13, pr0_14, pr1_14, pr2_14, pr0_15, pr1_15, pr2_15, pr0_16, pr1_16, pr2_16, pr0_17, pr1_17, pr2_17, pr0_18, pr1_18, pr2_18, pr0_19, pr1_19, pr2_19, pr0_20, pr1_20, pr2_20, pr0_30, pr1_30, pr2_30, pr0_31, pr1_31, pr2_31, pr0_32, pr1_32, pr2_32, pr0_33, pr1_33, pr2_33, pr0_34, pr1_34, pr2_34, pr0_35, pr1_35, pr2_35, pr0_36, pr1_36, pr2_36, pr0_37, pr1_37, pr2_37, pr0_50, pr1_50, pr2_50, pr0_51, pr1_51, pr2_51, pr0_52, pr1_52, pr2_52, pr0_53, pr1_53, pr2_53, pr0_54, pr1_54, pr2_54, pr0_70, pr1_70, pr2_70, pr0_71, pr1_71, pr2_71, pr0_72, pr1_72, pr2_72, pr0_73, pr1_73, pr2_73, pr0_74, pr1_74, pr2_74, pr0_75, pr1_75, pr2_75, pr0_76, pr1_76, pr2_76, pr0_77, pr1_77, pr2_77, pr0_78, pr1_78, pr2_78, pr0_79, pr1_79, pr2_79, pr0_80, pr1_80, pr2_80, pr0_81, pr1_81, pr2_81, pr0_82, pr1_82, pr2_82, pr0_83, pr1_83, pr2_83, pr0_84, pr1_84, pr2_84, okF_tv, okF_no, okF_n1, okF_i, okLi, okOv, ok33] <;> assumption) | decide | (simp only [mkN_nn, mkN_fl, sX_fl, sX_nn, List.length_append, List.length_cons, List.length_nil, List.length_map]; omega) | (dsimp only; omega)) only [amth_eq, rn_seq, rn_if, rn_set, rn_inc, rn_ex, rn_ret, rn_ret0, rn_skip, rn_putF, rn_opF, rn_opU, rn_putS, rn_opS, rn_at, rn_atB, rn_add, rn_swap, rn_sw, rn_brk, rn_cnt, fin_ok, fin_ab, fin_ite, fin_og, fin_b, fin_0, fin_1, fin_v, fin_no, fin_none, d10, eq_self, decide_true, decide_false, ti_b, b2i_t, b2i_f, aK, aL, aF, aSz, aBin, aDiv, aB, aAt, aNd, aArgs, aCall, aIf, bCmp, bZ, bAnd, bOr, bNot, bTT, bIf, ab_ok, ab_no, ab_none, ab_ab, ab_ite, aok_ok, aok_none, og_ok, og_none, vbin_i, vb8_i, vput_i, vI_i, cmp_i, hold_eq, hold_ne, hold_lt, hold_ge, hold_gt, hold_le, b2i_0, ss_b, ss_ite, oAdd, oSub, oMul, Option.bind_some, A0of, va_up, List.length_nil, List.length_cons, List.getD_cons_zero, List.getD_cons_succ, List.getD_nil, if_true, if_false, Bool.not_not, Bool.not_true, Bool.not_false, Bool.false_eq_true, reduceIte, Nat.reduceSub, Nat.reduceAdd, Nat.reduceEqDiff, x_takes]
      cases hc : sg tk ps.1 s with
      | false =>
        rw [pb_val (v := []) (ps' := ps) (by simp only [pSeps, hc, A0of, va_up, List.length_nil, List.length_cons, List.getD_cons_zero, List.getD_cons_succ, List.getD_nil, if_true, if_false, Bool.not_not, Bool.not_true, Bool.not_false, Bool.false_eq_true, reduceIte, Nat.reduceSub, Nat.reduceAdd, Nat.reduceEqDiff])]
        simp only [A0of, va_up, List.length_nil, List.length_cons, List.getD_cons_zero, List.getD_cons_succ, List.getD_nil, if_true, if_false, Bool.not_not, Bool.not_true, Bool.not_false, Bool.false_eq_true, reduceIte, Nat.reduceSub, Nat.reduceAdd, Nat.reduceEqDiff]
        have := hK [] ps j (PGe.rf hps ha) (Nat.le_refl _) (fun q => by rw [hc] at q; cases q) hj (by simpa using hB) (by simpa using hS)
        simpa using this
      | true =>
        have hlt : ps.1 < Tn tk := sg_lt hc
        have e : pb (pSeps tk s p (M + 1)) F ps = pb p (fun t => pb (pSeps tk s p M) fun ts => F (t :: ts)) (ps.1 + 1, ps.2) := by
          rw [pb_at (p' := pb p fun t => pb (pSeps tk s p M) fun ts => pret (t :: ts)) (ps' := (ps.1 + 1, ps.2)) (by simp only [pSeps, hc, A0of, va_up, List.length_nil, List.length_cons, List.getD_cons_zero, List.getD_cons_succ, List.getD_nil, if_true, if_false, Bool.not_not, Bool.not_true, Bool.not_false, Bool.false_eq_true, reduceIte, Nat.reduceSub, Nat.reduceAdd, Nat.reduceEqDiff])]
          simp only [pb_pb, pret_pb]
        rw [e]
        simp only [A0of, va_up, List.length_nil, List.length_cons, List.getD_cons_zero, List.getD_cons_succ, List.getD_nil, if_true, if_false, Bool.not_not, Bool.not_true, Bool.not_false, Bool.false_eq_true, reduceIte, Nat.reduceSub, Nat.reduceAdd, Nat.reduceEqDiff, hav]
        have hP1 : PRX tk (ps.1 + 1, ps.2) ((o, base ++ don.map tv), g) j (n + 1) := hP.at (by omega) hlt (je.rf (W := W) j) (by omega)
        refine ctx_bind (B1 := j.nn + 100 * (Tn tk - (ps.1 + 1)) - 30) hj (hv (ps.1 + 1, ps.2) _ j _ (hP1.at (Nat.le_refl _) hlt (je.rf (W := W) j) (by first | omega | (dsimp only; omega))) (by first | omega | (dsimp only; omega))) fun v ps' j' hp hj' hB' => ?_
        obtain ⟨g1, g2, g3, g4, g5⟩ := hpg (ps.1 + 1, ps.2) v ps' hps hp
        dsimp only at g1 g3 g4
        have hjj : je W j j' := hj.l hj'
        have hS' : fS ((o, base ++ (don ++ [v]).map tv), g) + j'.nn + 8 * (n + 1) + 100 * (Tn tk - ps'.1) ≤ 29000 := by
          rw [List.map_append, ← List.append_assoc, fS_push]
          simp only [List.map_cons, List.map_nil, List.length_cons, List.length_nil]
          omega
        have hPn : PRX tk ps' ((o, base ++ (don ++ [v]).map tv), g) j' (n + 1) := hP1.nx ⟨g1, g2, g3, g4, g5⟩ hjj hS'
        have hlen : o + (base ++ don.map tv).length < ALM := by
          simp only [fS] at hS
          omega
        simp (disch := first | assumption | omega | (simp only [pr0_1, pr1_1, pr2_1, pr0_10, pr1_10, pr2_10, pr0_11, pr1_11, pr2_11, pr0_12, pr1_12, pr2_12, pr0_13, pr1_13, pr2_13, pr0_14, pr1_14, pr2_14, pr0_15, pr1_15, pr2_15, pr0_16, pr1_16, pr2_16, pr0_17, pr1_17, pr2_17, pr0_18, pr1_18, pr2_18, pr0_19, pr1_19, pr2_19, pr0_20, pr1_20, pr2_20, pr0_30, pr1_30, pr2_30, pr0_31, pr1_31, pr2_31, pr0_32, pr1_32, pr2_32, pr0_33, pr1_33, pr2_33, pr0_34, pr1_34, pr2_34, pr0_35, pr1_35, pr2_35, pr0_36, pr1_36, pr2_36, pr0_37, pr1_37, pr2_37, pr0_50, pr1_50, pr2_50, pr0_51, pr1_51, pr2_51, pr0_52, pr1_52, pr2_52, pr0_53, pr1_53, pr2_53, pr0_54, pr1_54, pr2_54, pr0_70, pr1_70, pr2_70, pr0_71, pr1_71, pr2_71, pr0_72, pr1_72, pr2_72, pr0_73, pr1_73, pr2_73, pr0_74, pr1_74, pr2_74, pr0_75, pr1_75, pr2_75, pr0_76, pr1_76, pr2_76, pr0_77, pr1_77, pr2_77, pr0_78, pr1_78, pr2_78, pr0_79, pr1_79, pr2_79, pr0_80, pr1_80, pr2_80, pr0_81, pr1_81, pr2_81, pr0_82, pr1_82, pr2_82, pr0_83, pr1_83, pr2_83, pr0_84, pr1_84, pr2_84, okF_tv, okF_no, okF_n1, okF_i, okLi, okOv, ok33] <;> assumption) | decide | (simp only [mkN_nn, mkN_fl, sX_fl, sX_nn, List.length_append, List.length_cons, List.length_nil, List.length_map]; omega) | (dsimp only; omega)) only [amth_eq, rn_seq, rn_if, rn_set, rn_inc, rn_ex, rn_ret, rn_ret0, rn_skip, rn_putF, rn_opF, rn_opU, rn_putS, rn_opS, rn_at, rn_atB, rn_add, rn_swap, rn_sw, rn_brk, rn_cnt, fin_ok, fin_ab, fin_ite, fin_og, fin_b, fin_0, fin_1, fin_v, fin_no, fin_none, d10, eq_self, decide_true, decide_false, ti_b, b2i_t, b2i_f, aK, aL, aF, aSz, aBin, aDiv, aB, aAt, aNd, aArgs, aCall, aIf, bCmp, bZ, bAnd, bOr, bNot, bTT, bIf, ab_ok, ab_no, ab_none, ab_ab, ab_ite, aok_ok, aok_none, og_ok, og_none, vbin_i, vb8_i, vput_i, vI_i, cmp_i, hold_eq, hold_ne, hold_lt, hold_ge, hold_gt, hold_le, b2i_0, ss_b, ss_ite, oAdd, oSub, oMul, Option.bind_some, A0of, va_up, List.length_nil, List.length_cons, List.getD_cons_zero, List.getD_cons_succ, List.getD_nil, if_true, if_false, Bool.not_not, Bool.not_true, Bool.not_false, Bool.false_eq_true, reduceIte, Nat.reduceSub, Nat.reduceAdd, Nat.reduceEqDiff, xa13]
        have el : base ++ don.map tv ++ [tv v] = base ++ (don ++ [v]).map tv := by simp
        rw [el]
        refine ih M (don ++ [v]) ps' j' j0 K B0 C0 (B1 - 20) B _ (by omega) hPn hj' (by omega) fun ts ps'' j'' r1 r2 _ r3 r4 r5 => ?_
        have := hK (v :: ts) ps'' j'' ⟨by have := r1.1; omega, r1.2.1, r1.2.2.1.trans g3, by have := r1.2.2.2.1; omega, r1.2.2.2.2⟩ (by simp; omega) (fun _ => by simp) r3 (by simp; omega) (by simpa using r5)
        simpa using this
theorem ctx_je {α : Type} {em : α → V} {B : Nat} {r : Option (Option V × AS)} {q : PR α} (hj : je W j j') (h : CTx W em tk f j' B r q) : CTx W em tk f j B r q := by
  match q, h with
  | none, _ => exact trivial
  | some (.inr e), h =>
    obtain ⟨A', e1, q1, q2, q3, q4, q5⟩ := h
    exact ⟨A', e1, q1, q2, q3.trans (hj.2 22 (fun h => absurd h (by decide))), q4.trans hj.1, q5⟩
  | some (.inl (v, ps')), h =>
    obtain ⟨j2, e1, q1, q2⟩ := h
    exact ⟨j2, e1, hj.trans q1, q2⟩
theorem ab_id (r : Option (Option V × AS)) : ab r (fun v A => some (some v, A)) = r := by
  match r with
  | none => rfl
  | some (none, A) => rfl
  | some (some v, A) => rfl
theorem x_bracketedType {ty : PA TR} {c : Nat} (hpg : PGr tk ty) (hty : CoX W tk c 30 38 [] ty) : CoX W tk (max c 5 + 1) 40 44 [] (pBrT tk ty) := by
  intro k ps f j B hk hP hB; have hP0 := hP; obtain ⟨ht, hps, ha, ho, hfr, hfl, hS⟩ := hP0; obtain ⟨n, rfl⟩ := suc1 (m := k) (by omega); have hf2 : 0 < (stX tk ps f j).fl := hfl; have ha2 : ps.1 ≤ tk.1.length := ha; have hA : ALM = 30000 := rfl
  obtain ⟨⟨o, base⟩, g⟩ := f
  refine ctx_grT ?_
  unfold pEnter
  simp (disch := first | assumption | omega | (simp only [pr0_1, pr1_1, pr2_1, pr0_10, pr1_10, pr2_10, pr0_11, pr1_11, pr2_11, pr0_12, pr1_12, pr2_12, pr0_13, pr1_13, pr2_13, pr0_14, pr1_14, pr2_14, pr0_15, pr1_15, pr2_15, pr0_16, pr1_16, pr2_16, pr0_17, pr1_17, pr2_17, pr0_18, pr1_18, pr2_18, pr0_19, pr1_19, pr2_19, pr0_20, pr1_20, pr2_20, pr0_30, pr1_30, pr2_30, pr0_31, pr1_31, pr2_31, pr0_32, pr1_32, pr2_32, pr0_33, pr1_33, pr2_33, pr0_34, pr1_34, pr2_34, pr0_35, pr1_35, pr2_35, pr0_36, pr1_36, pr2_36, pr0_37, pr1_37, pr2_37, pr0_50, pr1_50, pr2_50, pr0_51, pr1_51, pr2_51, pr0_52, pr1_52, pr2_52, pr0_53, pr1_53, pr2_53, pr0_54, pr1_54, pr2_54, pr0_70, pr1_70, pr2_70, pr0_71, pr1_71, pr2_71, pr0_72, pr1_72, pr2_72, pr0_73, pr1_73, pr2_73, pr0_74, pr1_74, pr2_74, pr0_75, pr1_75, pr2_75, pr0_76, pr1_76, pr2_76, pr0_77, pr1_77, pr2_77, pr0_78, pr1_78, pr2_78, pr0_79, pr1_79, pr2_79, pr0_80, pr1_80, pr2_80, pr0_81, pr1_81, pr2_81, pr0_82, pr1_82, pr2_82, pr0_83, pr1_83, pr2_83, pr0_84, pr1_84, pr2_84, okF_tv, okF_no, okF_n1, okF_i, okLi, okOv, ok33] <;> assumption) | decide | (simp only [mkN_nn, mkN_fl, sX_fl, sX_nn, List.length_append, List.length_cons, List.length_nil, List.length_map]; omega) | (dsimp only; omega)) only [eX_bracketedType, zX_bracketedType, amth_eq, rn_seq, rn_if, rn_set, rn_inc, rn_ex, rn_ret, rn_ret0, rn_skip, rn_putF, rn_opF, rn_opU, rn_putS, rn_opS, rn_at, rn_atB, rn_add, rn_swap, rn_sw, rn_brk, rn_cnt, fin_ok, fin_ab, fin_ite, fin_og, fin_b, fin_0, fin_1, fin_v, fin_no, fin_none, d10, eq_self, decide_true, decide_false, ti_b, b2i_t, b2i_f, aK, aL, aF, aSz, aBin, aDiv, aB, aAt, aNd, aArgs, aCall, aIf, bCmp, bZ, bAnd, bOr, bNot, bTT, bIf, ab_ok, ab_no, ab_none, ab_ab, ab_ite, aok_ok, aok_none, og_ok, og_none, vbin_i, vb8_i, vput_i, vI_i, cmp_i, hold_eq, hold_ne, hold_lt, hold_ge, hold_gt, hold_le, b2i_0, ss_b, ss_ite, oAdd, oSub, oMul, Option.bind_some, A0of, va_up, List.length_nil, List.length_cons, List.getD_cons_zero, List.getD_cons_succ, List.getD_nil, if_true, if_false, Bool.not_not, Bool.not_true, Bool.not_false, Bool.false_eq_true, reduceIte, Nat.reduceSub, Nat.reduceAdd, Nat.reduceEqDiff, sX_f3, sX_f17, sX_f18, sX_f21, sX_R0, sX_R1, sX_R2, sX_R10, sX_R11, sX_R12, sX_R13, sX_R14, sX_R15, sX_o0, sX_o1, sX_o2, sX_o10, sX_o11, sX_o12, sX_o13, sX_o14, sX_o15, sX_nn, sX_fl, sX_p3, sX_p17, sX_p18, sX_p21, sX_p13, sX_p14, sX_p15, sX_p10, sX_p11, sX_p12, nI_1, nI_pred, x_enter]
  by_cases h : ps.2.1 < 32
  · simp only [h, if_true, A0of, va_up, List.length_nil, List.length_cons, List.getD_cons_zero, List.getD_cons_succ, List.getD_nil, if_true, if_false, Bool.not_not, Bool.not_true, Bool.not_false, Bool.false_eq_true, reduceIte, Nat.reduceSub, Nat.reduceAdd, Nat.reduceEqDiff, d10, eq_self, decide_true, decide_false, ti_b, b2i_t, b2i_f, aK, aL, aF, aSz, aBin, aDiv, aB, aAt, aNd, aArgs, aCall, aIf, bCmp, bZ, bAnd, bOr, bNot, bTT, bIf, ab_ok, ab_no, ab_none, ab_ab, ab_ite, aok_ok, aok_none, og_ok, og_none, vbin_i, vb8_i, vput_i, vI_i, cmp_i, hold_eq, hold_ne, hold_lt, hold_ge, hold_gt, hold_le, b2i_0, ss_b, ss_ite, oAdd, oSub, oMul, Option.bind_some, sX_f3, sX_f17, sX_f18, sX_f21, sX_R0, sX_R1, sX_R2, sX_R10, sX_R11, sX_R12, sX_R13, sX_R14, sX_R15, sX_o0, sX_o1, sX_o2, sX_o10, sX_o11, sX_o12, sX_o13, sX_o14, sX_o15, sX_nn, sX_fl, sX_p3, sX_p17, sX_p18, sX_p21, sX_p13, sX_p14, sX_p15, sX_p10, sX_p11, sX_p12, nI_1, nI_pred]
    unfold pAdv
    by_cases hlt : ps.1 < Tn tk
    · have ha3 : ps.1 + 1 ≤ tk.1.length := hlt
      simp only [hlt, if_true]
      have hP1 : PRX tk (ps.1 + 1, ps.2.1 + 1, ps.2.2) ((o, base), g) j (n + 1) := hP.go (by omega) hlt (by omega) (je.rf (W := W) j) (by omega)
      refine ctx_bind (B1 := j.nn + 100 * (Tn tk - (ps.1 + 1)) - 30) (je.rf (W := W) j) (hty n _ _ j _ (by omega) (hP1.at (Nat.le_refl _) hlt (je.rf (W := W) j) (by first | omega | (dsimp only; omega))) (by first | omega | (dsimp only; omega))) fun t ps1 j1 hp hj1 hB1 => ?_
      obtain ⟨g1, g2, g3, g4, g5⟩ := hpg (ps.1 + 1, ps.2.1 + 1, ps.2.2) t ps1 hps hp
      dsimp only at g1 g3 g4
      have hlen : o + base.length < ALM := by simp only [fS] at hS; omega
      simp (disch := first | assumption | omega | (simp only [pr0_1, pr1_1, pr2_1, pr0_10, pr1_10, pr2_10, pr0_11, pr1_11, pr2_11, pr0_12, pr1_12, pr2_12, pr0_13, pr1_13, pr2_13, pr0_14, pr1_14, pr2_14, pr0_15, pr1_15, pr2_15, pr0_16, pr1_16, pr2_16, pr0_17, pr1_17, pr2_17, pr0_18, pr1_18, pr2_18, pr0_19, pr1_19, pr2_19, pr0_20, pr1_20, pr2_20, pr0_30, pr1_30, pr2_30, pr0_31, pr1_31, pr2_31, pr0_32, pr1_32, pr2_32, pr0_33, pr1_33, pr2_33, pr0_34, pr1_34, pr2_34, pr0_35, pr1_35, pr2_35, pr0_36, pr1_36, pr2_36, pr0_37, pr1_37, pr2_37, pr0_50, pr1_50, pr2_50, pr0_51, pr1_51, pr2_51, pr0_52, pr1_52, pr2_52, pr0_53, pr1_53, pr2_53, pr0_54, pr1_54, pr2_54, pr0_70, pr1_70, pr2_70, pr0_71, pr1_71, pr2_71, pr0_72, pr1_72, pr2_72, pr0_73, pr1_73, pr2_73, pr0_74, pr1_74, pr2_74, pr0_75, pr1_75, pr2_75, pr0_76, pr1_76, pr2_76, pr0_77, pr1_77, pr2_77, pr0_78, pr1_78, pr2_78, pr0_79, pr1_79, pr2_79, pr0_80, pr1_80, pr2_80, pr0_81, pr1_81, pr2_81, pr0_82, pr1_82, pr2_82, pr0_83, pr1_83, pr2_83, pr0_84, pr1_84, pr2_84, okF_tv, okF_no, okF_n1, okF_i, okLi, okOv, ok33] <;> assumption) | decide | (simp only [mkN_nn, mkN_fl, sX_fl, sX_nn, List.length_append, List.length_cons, List.length_nil, List.length_map]; omega) | (dsimp only; omega)) only [amth_eq, rn_seq, rn_if, rn_set, rn_inc, rn_ex, rn_ret, rn_ret0, rn_skip, rn_putF, rn_opF, rn_opU, rn_putS, rn_opS, rn_at, rn_atB, rn_add, rn_swap, rn_sw, rn_brk, rn_cnt, fin_ok, fin_ab, fin_ite, fin_og, fin_b, fin_0, fin_1, fin_v, fin_no, fin_none, d10, eq_self, decide_true, decide_false, ti_b, b2i_t, b2i_f, aK, aL, aF, aSz, aBin, aDiv, aB, aAt, aNd, aArgs, aCall, aIf, bCmp, bZ, bAnd, bOr, bNot, bTT, bIf, ab_ok, ab_no, ab_none, ab_ab, ab_ite, aok_ok, aok_none, og_ok, og_none, vbin_i, vb8_i, vput_i, vI_i, cmp_i, hold_eq, hold_ne, hold_lt, hold_ge, hold_gt, hold_le, b2i_0, ss_b, ss_ite, oAdd, oSub, oMul, Option.bind_some, A0of, va_up, List.length_nil, List.length_cons, List.getD_cons_zero, List.getD_cons_succ, List.getD_nil, if_true, if_false, Bool.not_not, Bool.not_true, Bool.not_false, Bool.false_eq_true, reduceIte, Nat.reduceSub, Nat.reduceAdd, Nat.reduceEqDiff, xa13]
      have hS1 : fS ((o, base ++ [t].map tv), g) + j1.nn + 8 * (n + 1) + 100 * (Tn tk - ps1.1) ≤ 29000 := by
        rw [fS_push]
        simp
        omega
      have hPn : PRX tk ps1 ((o, base ++ [t].map tv), g) j1 (n + 1) := hP1.nx ⟨g1, g2, g3, g4, g5⟩ hj1 hS1
      refine x_seps_loop (n := n) (tg := 38) (vs := []) (by omega) hpg (by intro A; rfl) (by intro A; rfl) (fun ps f j B h1 h2 => hty n ps f j B (by omega) h1 h2) 99999 LF [t] ps1 j1 j _ nk nk (j1.nn + 100 * (Tn tk - ps1.1)) B _ (by decide) hPn hj1 (Nat.le_refl _) fun ts ps2 j2 r1 r2 _ r3 r4 r5 => ?_
      obtain ⟨c1, c2, c3, c4, c5⟩ := r1
      have hfl' : 0 < j2.fl := by rw [r3.1]; exact hfl
      have ha4 : ps2.1 ≤ tk.1.length := c2
      simp (disch := first | assumption | omega | (simp only [pr0_1, pr1_1, pr2_1, pr0_10, pr1_10, pr2_10, pr0_11, pr1_11, pr2_11, pr0_12, pr1_12, pr2_12, pr0_13, pr1_13, pr2_13, pr0_14, pr1_14, pr2_14, pr0_15, pr1_15, pr2_15, pr0_16, pr1_16, pr2_16, pr0_17, pr1_17, pr2_17, pr0_18, pr1_18, pr2_18, pr0_19, pr1_19, pr2_19, pr0_20, pr1_20, pr2_20, pr0_30, pr1_30, pr2_30, pr0_31, pr1_31, pr2_31, pr0_32, pr1_32, pr2_32, pr0_33, pr1_33, pr2_33, pr0_34, pr1_34, pr2_34, pr0_35, pr1_35, pr2_35, pr0_36, pr1_36, pr2_36, pr0_37, pr1_37, pr2_37, pr0_50, pr1_50, pr2_50, pr0_51, pr1_51, pr2_51, pr0_52, pr1_52, pr2_52, pr0_53, pr1_53, pr2_53, pr0_54, pr1_54, pr2_54, pr0_70, pr1_70, pr2_70, pr0_71, pr1_71, pr2_71, pr0_72, pr1_72, pr2_72, pr0_73, pr1_73, pr2_73, pr0_74, pr1_74, pr2_74, pr0_75, pr1_75, pr2_75, pr0_76, pr1_76, pr2_76, pr0_77, pr1_77, pr2_77, pr0_78, pr1_78, pr2_78, pr0_79, pr1_79, pr2_79, pr0_80, pr1_80, pr2_80, pr0_81, pr1_81, pr2_81, pr0_82, pr1_82, pr2_82, pr0_83, pr1_83, pr2_83, pr0_84, pr1_84, pr2_84, okF_tv, okF_no, okF_n1, okF_i, okLi, okOv, ok33] <;> assumption) | decide | (simp only [mkN_nn, mkN_fl, sX_fl, sX_nn, List.length_append, List.length_cons, List.length_nil, List.length_map]; omega) | (dsimp only; omega)) only [amth_eq, rn_seq, rn_if, rn_set, rn_inc, rn_ex, rn_ret, rn_ret0, rn_skip, rn_putF, rn_opF, rn_opU, rn_putS, rn_opS, rn_at, rn_atB, rn_add, rn_swap, rn_sw, rn_brk, rn_cnt, fin_ok, fin_ab, fin_ite, fin_og, fin_b, fin_0, fin_1, fin_v, fin_no, fin_none, d10, eq_self, decide_true, decide_false, ti_b, b2i_t, b2i_f, aK, aL, aF, aSz, aBin, aDiv, aB, aAt, aNd, aArgs, aCall, aIf, bCmp, bZ, bAnd, bOr, bNot, bTT, bIf, ab_ok, ab_no, ab_none, ab_ab, ab_ite, aok_ok, aok_none, og_ok, og_none, vbin_i, vb8_i, vput_i, vI_i, cmp_i, hold_eq, hold_ne, hold_lt, hold_ge, hold_gt, hold_le, b2i_0, ss_b, ss_ite, oAdd, oSub, oMul, Option.bind_some, A0of, va_up, List.length_nil, List.length_cons, List.getD_cons_zero, List.getD_cons_succ, List.getD_nil, if_true, if_false, Bool.not_not, Bool.not_true, Bool.not_false, Bool.false_eq_true, reduceIte, Nat.reduceSub, Nat.reduceAdd, Nat.reduceEqDiff, x_need]
      unfold pNeed
      cases hc : sg tk ps2.1 34 with
      | false =>
        simp only [d10, eq_self, decide_true, decide_false, ti_b, b2i_t, b2i_f, aK, aL, aF, aSz, aBin, aDiv, aB, aAt, aNd, aArgs, aCall, aIf, bCmp, bZ, bAnd, bOr, bNot, bTT, bIf, ab_ok, ab_no, ab_none, ab_ab, ab_ite, aok_ok, aok_none, og_ok, og_none, vbin_i, vb8_i, vput_i, vI_i, cmp_i, hold_eq, hold_ne, hold_lt, hold_ge, hold_gt, hold_le, b2i_0, ss_b, ss_ite, oAdd, oSub, oMul, Option.bind_some, A0of, va_up, List.length_nil, List.length_cons, List.getD_cons_zero, List.getD_cons_succ, List.getD_nil, if_true, if_false, Bool.not_not, Bool.not_true, Bool.not_false, Bool.false_eq_true, reduceIte, Nat.reduceSub, Nat.reduceAdd, Nat.reduceEqDiff]
        exact ctx_flt r3 hfl'
      | true =>
        have hlt4 : ps2.1 < Tn tk := sg_lt hc
        have e17 : nI ps2.2.1 - 1 = nI ps.2.1 := by rw [c3, g3]; exact nI_pred _
        simp only [d10, eq_self, decide_true, decide_false, ti_b, b2i_t, b2i_f, aK, aL, aF, aSz, aBin, aDiv, aB, aAt, aNd, aArgs, aCall, aIf, bCmp, bZ, bAnd, bOr, bNot, bTT, bIf, ab_ok, ab_no, ab_none, ab_ab, ab_ite, aok_ok, aok_none, og_ok, og_none, vbin_i, vb8_i, vput_i, vI_i, cmp_i, hold_eq, hold_ne, hold_lt, hold_ge, hold_gt, hold_le, b2i_0, ss_b, ss_ite, oAdd, oSub, oMul, Option.bind_some, A0of, va_up, List.length_nil, List.length_cons, List.getD_cons_zero, List.getD_cons_succ, List.getD_nil, if_true, if_false, Bool.not_not, Bool.not_true, Bool.not_false, Bool.false_eq_true, reduceIte, Nat.reduceSub, Nat.reduceAdd, Nat.reduceEqDiff, sX_f3, sX_f17, sX_f18, sX_f21, sX_R0, sX_R1, sX_R2, sX_R10, sX_R11, sX_R12, sX_R13, sX_R14, sX_R15, sX_o0, sX_o1, sX_o2, sX_o10, sX_o11, sX_o12, sX_o13, sX_o14, sX_o15, sX_nn, sX_fl, sX_p3, sX_p17, sX_p18, sX_p21, sX_p13, sX_p14, sX_p15, sX_p10, sX_p11, sX_p12, nI_1, nI_pred, e17]
        unfold pLeave
        dsimp only
        rw [show ps2.2.1 - 1 = ps.2.1 by omega]
        rw [fS_push] at r5
        simp only [List.cons_append, List.nil_append, List.length_map, List.length_cons] at r5
        by_cases hts : ts = []
        · subst hts
          have e1 : decide (nI (o + (base ++ [tv t]).length) = nI (o + base.length + 1)) = true := by simp [Nat.add_assoc]
          have e2 : base ++ ([t] ++ []).map tv = base ++ [tv t] := by simp
          simp only [e1, if_true, e2, xp13, d10, eq_self, decide_true, decide_false, ti_b, b2i_t, b2i_f, aK, aL, aF, aSz, aBin, aDiv, aB, aAt, aNd, aArgs, aCall, aIf, bCmp, bZ, bAnd, bOr, bNot, bTT, bIf, ab_ok, ab_no, ab_none, ab_ab, ab_ite, aok_ok, aok_none, og_ok, og_none, vbin_i, vb8_i, vput_i, vI_i, cmp_i, hold_eq, hold_ne, hold_lt, hold_ge, hold_gt, hold_le, b2i_0, ss_b, ss_ite, oAdd, oSub, oMul, Option.bind_some, A0of, va_up, List.length_nil, List.length_cons, List.getD_cons_zero, List.getD_cons_succ, List.getD_nil, if_true, if_false, Bool.not_not, Bool.not_true, Bool.not_false, Bool.false_eq_true, reduceIte, Nat.reduceSub, Nat.reduceAdd, Nat.reduceEqDiff]
          simp at r4
          exact ctx_ret r3 (by first | omega | (dsimp only; omega))
        · have hl : 1 ≤ ts.length := by
            cases ts with
            | nil => exact absurd rfl hts
            | cons _ _ => simp
          have e1 : decide (nI (o + (base ++ ([t] ++ ts).map tv).length) = nI (o + base.length + 1)) = false := by
            apply decide_eq_false
            simp only [fS] at r5
            rw [nI_eq (by simp; omega) (by omega)]
            simp
            omega
          have el := x_list (tk := tk) (ps := (ps2.1 + 1, ps.2.1, ps2.2.2)) (j := j2) (m := n) (by omega) (o := o) (base := base) (items := [t] ++ ts) (g := g) (by simp; omega) (by simp [fS] at r5 ⊢; omega) (by simp; omega)
          simp only [e1, hts, if_false, d10, eq_self, decide_true, decide_false, ti_b, b2i_t, b2i_f, aK, aL, aF, aSz, aBin, aDiv, aB, aAt, aNd, aArgs, aCall, aIf, bCmp, bZ, bAnd, bOr, bNot, bTT, bIf, ab_ok, ab_no, ab_none, ab_ab, ab_ite, aok_ok, aok_none, og_ok, og_none, vbin_i, vb8_i, vput_i, vI_i, cmp_i, hold_eq, hold_ne, hold_lt, hold_ge, hold_gt, hold_le, b2i_0, ss_b, ss_ite, oAdd, oSub, oMul, Option.bind_some, A0of, va_up, List.length_nil, List.length_cons, List.getD_cons_zero, List.getD_cons_succ, List.getD_nil, if_true, if_false, Bool.not_not, Bool.not_true, Bool.not_false, Bool.false_eq_true, reduceIte, Nat.reduceSub, Nat.reduceAdd, Nat.reduceEqDiff, el, ab_id]
          have hPz : PRX tk (ps2.1 + 1, ps.2.1, ps2.2.2) ((o, base), g) (mkN j2 ([t] ++ ts).length) n := ⟨ht, c5, hlt4, ho, by dsimp only at c4 g4 ⊢; omega, by rw [mkN_fl, r3.1]; exact hfl, by rw [mkN_nn]; simp; omega⟩
          exact ctx_je (r3.mk _) (x_tycon (okLi _) n _ _ _ B (by omega) hPz (by rw [mkN_nn]; simp at r4 ⊢; omega))
    · simp only [hlt, if_false]
      exact trivial
  · simp only [h, if_false, A0of, va_up, List.length_nil, List.length_cons, List.getD_cons_zero, List.getD_cons_succ, List.getD_nil, if_true, if_false, Bool.not_not, Bool.not_true, Bool.not_false, Bool.false_eq_true, reduceIte, Nat.reduceSub, Nat.reduceAdd, Nat.reduceEqDiff, d10, eq_self, decide_true, decide_false, ti_b, b2i_t, b2i_f, aK, aL, aF, aSz, aBin, aDiv, aB, aAt, aNd, aArgs, aCall, aIf, bCmp, bZ, bAnd, bOr, bNot, bTT, bIf, ab_ok, ab_no, ab_none, ab_ab, ab_ite, aok_ok, aok_none, og_ok, og_none, vbin_i, vb8_i, vput_i, vI_i, cmp_i, hold_eq, hold_ne, hold_lt, hold_ge, hold_gt, hold_le, b2i_0, ss_b, ss_ite, oAdd, oSub, oMul, Option.bind_some]
    exact ctx_flt (je.rf (W := W) j) hfl
end XSP
