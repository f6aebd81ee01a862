/-! X: clauses -/
section XCL
variable {tk : TK} {ps ps' ps2 : PS} {f f1 f' : FX} {j j1 j' j2 j0 : AS} {m n k k' : Nat} {A A' : AS} {LV : AL} {α : Type} {em : α → V} {fo : FX} {B : Nat}
/-- how the clause before was called -/
def nmV : Option (Int32 × Nat) → Int32 × Int32
  | none => (-1, 0)
  | some q => (q.1, nI q.2)
def nmOK (nm : Option (Int32 × Nat)) : Prop := ∀ q, nm = some q → 0 ≤ q.1 ∧ q.2 < 2 ^ 30
def nmB2 (nm : Option (Int32 × Nat)) (x : Int32) (c : Nat) : Bool := match nm with
  | none => false
  | some q => !(decide (q.1 = x) && decide (q.2 = c))
/-- behind the equals sign -/
theorem x_cls2 {E : PA TR} {c o b : Nat} {base : List V} {don : List TR} {gg : (Nat × List V) × (Nat × List V)} {h : Int32 × List TR} {t : Option TR} {F : TR → PA α} {K B0 C0 : KT} (hEg : PGr tk E) (hE : CoX false tk c 30 53 [.int 0] E) (hn : max c 5 ≤ n) (hlt : ps.1 < Tn tk) (h1 : 1 ≤ h.2.length) (h2 : h.2.length ≤ 20000)
    (hP : PRX tk ps ((o, base ++ don.map tv ++ h.2.map tv), gg) j (n + 1)) (hj : je false j0 j) (hr : fS ((o, base ++ don.map tv), gg) + j.nn + 8 * (n + 1) + 100 * (Tn tk - ps.1) + 2 * h.2.length + 10 ≤ 29000)
    (l6 : LV 6 = .int (nI b)) (l7 : LV 7 = .int (nI (o + (base ++ don.map tv).length))) (l8 : LV 8 = .int (nI h.2.length)) (l9 : LV 9 = .int h.1) (l10 : LV 10 = ov t)
    (hK : ∀ e ps4 j' LV', PG tk (ps.1 + 1, ps.2) ps4 → je false j0 j' → j'.nn + 100 * (Tn tk - ps4.1) + 120 ≤ j.nn + 2 * h.2.length + 100 * (Tn tk - ps.1) → (∀ k, k < 3 → LV' k = LV k) → LV' 3 = .int h.1 → LV' 4 = .int (nI h.2.length) → LV' 5 = .int (b2i (sg tk ps4.1 44)) → CTx false em tk fo j0 B (K LV' (stX tk (if sg tk ps4.1 44 = true then (ps4.1 + 1, ps4.2) else ps4) ((o, base ++ (don ++ [tRule (tMp h.2 (nI b)) (tTo e t (ps.1 + 1)) (nI b)]).map tv), gg) j')) (F e ps4)) :
    CTx false em tk fo j0 B (rn ((zSeq (zOpF oAdd 3 (aK 1)) (zSeq (zSet 3 (aL 9)) (zSeq (zSet 4 (aL 8)) (zSeq (zSet 11 (aIf (bCmp .eq (aL 8) (aK 1)) (aPop 13) (aCall (aX n) 47 [(aL 7), (aK 34), (aK 33), (aL 6)]))) (zSeq (zSet 12 (aF 3)) (zSeq (zSet 13 (aCall (aX n) 53 [(aK 0)])) (zSeq (zSet 13 (aIf (bCmp .eq (aL 10) (aK (-1))) (aL 13) (aCall (aX n) 21 [(aK 16), (aL 13), (aL 10), (aK (-1)), (aL 12)]))) (zSeq (zAdd 13 (aCall (aX n) 56 [(aL 11), (aL 13), (aL 6)])) (zSet 5 (aCall (aX n) 10 [(aK 44)])))))))))) LV (stX tk ps ((o, base ++ don.map tv ++ h.2.map tv), gg) j)) K B0 C0) (pb E F (ps.1 + 1, ps.2)) := by
  obtain ⟨ht, hps, ha, ho, hfr, hfl, hS⟩ := id hP
  have hA : ALM = 30000 := rfl
  rw [rn_seq, rn_opF, aK_e, ab_ok, sX_f3, vbin_i, Option.bind_some, vput_i, og_ok, show oAdd (nI ps.1) 1 = nI (ps.1 + 1) from nI_1 _, sX_p3, rn_seq, rn_set, aL_e, ab_ok, rn_seq, rn_set, aL_e, ab_ok, rn_seq, rn_set]
  obtain ⟨c1, q1, q2⟩ : ∃ c1, c1 ≤ 2 * h.2.length + 1 ∧ ∀ L : AL, L 6 = .int (nI b) → L 7 = .int (nI (o + (base ++ don.map tv).length)) → L 8 = .int (nI h.2.length) → (aIf (bCmp .eq (aL 8) (aK 1)) (aPop 13) (aCall (aX n) 47 [(aL 7), (aK 34), (aK 33), (aL 6)])) L (stX tk (ps.1 + 1, ps.2) ((o, base ++ don.map tv ++ h.2.map tv), gg) j) = some (some (tv (tMp h.2 (nI b))), stX tk (ps.1 + 1, ps.2) ((o, base ++ don.map tv), gg) (mkN j c1)) := by
    by_cases hm1 : h.2.length = 1
    · refine ⟨0, by omega, fun L m6 m7 m8 => ?_⟩
      obtain ⟨nm, l⟩ := h
      match l, hm1 with
      | [t], _ =>
        have d1 : decide (nI [t].length = 1) = true := rfl
        simp only [d10, eq_self, decide_true, decide_false, ti_b, b2i_t, b2i_f, aK, aL, aF, aSz, aBin, aDiv, aB, aAt, aNd, aArgs, aCall, aIf, bCmp, bZ, bAnd, bOr, bNot, bTT, bIf, ab_ok, ab_no, ab_none, ab_ab, ab_ite, aok_ok, aok_none, og_ok, og_none, vbin_i, vb8_i, vput_i, vI_i, cmp_i, hold_eq, hold_ne, hold_lt, hold_ge, hold_gt, hold_le, b2i_0, ss_b, ss_ite, oAdd, oSub, oMul, Option.bind_some, A0of, va_up, List.length_nil, List.length_cons, List.getD_cons_zero, List.getD_cons_succ, List.getD_nil, if_true, if_false, Bool.not_not, Bool.not_true, Bool.not_false, Bool.false_eq_true, reduceIte, Nat.reduceSub, Nat.reduceAdd, Nat.reduceEqDiff, m8, d1]
        rw [pop_ok (l := base ++ don.map tv) (v := tv t) (by simp only [sX_f3, sX_f17, sX_f18, sX_f21, sX_R0, sX_R1, sX_R2, sX_R10, sX_R11, sX_R12, sX_R13, sX_R14, sX_R15, sX_o0, sX_o1, sX_o2, sX_o10, sX_o11, sX_o12, sX_o13, sX_o14, sX_o15, sX_nn, sX_fl]; rfl)]
        simp only [sX_f3, sX_f17, sX_f18, sX_f21, sX_R0, sX_R1, sX_R2, sX_R10, sX_R11, sX_R12, sX_R13, sX_R14, sX_R15, sX_o0, sX_o1, sX_o2, sX_o10, sX_o11, sX_o12, sX_o13, sX_o14, sX_o15, sX_nn, sX_fl, sX_p3, sX_p17, sX_p18, sX_p21, sX_p13, sX_p14, sX_p15, sX_p10, sX_p11, sX_p12, nI_1, nI_pred]
        rfl
    · refine ⟨2 * h.2.length + 1, Nat.le_refl _, fun L m6 m7 m8 => ?_⟩
      have d1 : decide (nI h.2.length = 1) = false := decide_eq_false fun e => hm1 (nI_inj (by omega) (by omega) e)
      have et := x_tuple (tk := tk) (ps := (ps.1 + 1, ps.2)) (j := j) (m := n) (o := o) (base := base ++ don.map tv) (items := h.2) (fk := 34) (k := 33) (p := nI b) (g := gg) (by omega) (by decide) (by decide) (by omega) (by simp only [fS] at hr; omega) (by omega)
      simp only [d10, eq_self, decide_true, decide_false, ti_b, b2i_t, b2i_f, aK, aL, aF, aSz, aBin, aDiv, aB, aAt, aNd, aArgs, aCall, aIf, bCmp, bZ, bAnd, bOr, bNot, bTT, bIf, ab_ok, ab_no, ab_none, ab_ab, ab_ite, aok_ok, aok_none, og_ok, og_none, vbin_i, vb8_i, vput_i, vI_i, cmp_i, hold_eq, hold_ne, hold_lt, hold_ge, hold_gt, hold_le, b2i_0, ss_b, ss_ite, oAdd, oSub, oMul, Option.bind_some, A0of, va_up, List.length_nil, List.length_cons, List.getD_cons_zero, List.getD_cons_succ, List.getD_nil, if_true, if_false, Bool.not_not, Bool.not_true, Bool.not_false, Bool.false_eq_true, reduceIte, Nat.reduceSub, Nat.reduceAdd, Nat.reduceEqDiff, m6, m7, m8, d1, et]
      have : tMp h.2 (nI b) = tTup 34 33 h.2 (nI b) := by
        unfold tMp
        split
        · next e => rw [e] at hm1; simp at hm1
        · rfl
      rw [this]
  rw [q2 _ (by simpa [va_up] using l6) (by simpa [va_up] using l7) (by simpa [va_up] using l8), ab_ok, rn_seq, rn_set, show ∀ (L : AL) (s : AS), aF 3 L s = some (some (.int (s.1 3)), s) from fun _ _ => rfl, ab_ok, sX_f3, rn_seq, rn_set, aCall_1, aK_e, ab_ok]
  have hP2 : PRX tk (ps.1 + 1, ps.2) ((o, base ++ don.map tv), gg) (mkN j c1) (n + 1) := hP.at (Nat.le_succ _) hlt ((je.rf (W := false) _).mk _) (by rw [mkN_nn]; omega)
  refine ctx_st hE hEg (by omega) (by omega) hP2 (hj.mk _) fun e ps4 j4 g4 hP4 hj4 hB4 => ?_
  dsimp only at hB4
  rw [mkN_nn] at hB4
  obtain ⟨_, hps4, ha4, _, _, hfl4, hS4⟩ := id hP4
  have hb4 : ps4.1 ≤ tk.1.length := ha4
  obtain ⟨c2, k1, k2⟩ : ∃ c2, c2 ≤ 1 ∧ ∀ L : AL, L 10 = ov t → L 12 = .int (nI (ps.1 + 1)) → L 13 = tv e → (aIf (bCmp .eq (aL 10) (aK (-1))) (aL 13) (aCall (aX n) 21 [(aK 16), (aL 13), (aL 10), (aK (-1)), (aL 12)])) L (stX tk ps4 ((o, base ++ don.map tv), gg) j4) = some (some (tv (tTo e t (ps.1 + 1))), stX tk ps4 ((o, base ++ don.map tv), gg) (mkN j4 c2)) := by
    cases t with
    | none =>
      refine ⟨0, by omega, fun L m10 m12 m13 => ?_⟩
      have d1 : cmpV .eq (ov none) (.int (-1)) = some true := rfl
      simp only [d10, eq_self, decide_true, decide_false, ti_b, b2i_t, b2i_f, aK, aL, aF, aSz, aBin, aDiv, aB, aAt, aNd, aArgs, aCall, aIf, bCmp, bZ, bAnd, bOr, bNot, bTT, bIf, ab_ok, ab_no, ab_none, ab_ab, ab_ite, aok_ok, aok_none, og_ok, og_none, vbin_i, vb8_i, vput_i, vI_i, cmp_i, hold_eq, hold_ne, hold_lt, hold_ge, hold_gt, hold_le, b2i_0, ss_b, ss_ite, oAdd, oSub, oMul, Option.bind_some, A0of, va_up, List.length_nil, List.length_cons, List.getD_cons_zero, List.getD_cons_succ, List.getD_nil, if_true, if_false, Bool.not_not, Bool.not_true, Bool.not_false, Bool.false_eq_true, reduceIte, Nat.reduceSub, Nat.reduceAdd, Nat.reduceEqDiff, m10, m13, d1]
      rfl
    | some y =>
      refine ⟨1, Nat.le_refl _, fun L m10 m12 m13 => ?_⟩
      have d1 : cmpV .eq (ov (some y)) (.int (-1)) = some false := cE_tv _
      have d2 : ov (some y) = tv y := rfl
      rw [d2] at m10 d1
      simp (disch := first | assumption | omega | (simp only [pr0_1, pr1_1, pr2_1, pr0_10, pr1_10, pr2_10, pr0_11, pr1_11, pr2_11, pr0_12, pr1_12, pr2_12, pr0_13, pr1_13, pr2_13, pr0_14, pr1_14, pr2_14, pr0_15, pr1_15, pr2_15, pr0_16, pr1_16, pr2_16, pr0_17, pr1_17, pr2_17, pr0_18, pr1_18, pr2_18, pr0_19, pr1_19, pr2_19, pr0_20, pr1_20, pr2_20, pr0_30, pr1_30, pr2_30, pr0_31, pr1_31, pr2_31, pr0_32, pr1_32, pr2_32, pr0_33, pr1_33, pr2_33, pr0_34, pr1_34, pr2_34, pr0_35, pr1_35, pr2_35, pr0_36, pr1_36, pr2_36, pr0_37, pr1_37, pr2_37, pr0_50, pr1_50, pr2_50, pr0_51, pr1_51, pr2_51, pr0_52, pr1_52, pr2_52, pr0_53, pr1_53, pr2_53, pr0_54, pr1_54, pr2_54, pr0_70, pr1_70, pr2_70, pr0_71, pr1_71, pr2_71, pr0_72, pr1_72, pr2_72, pr0_73, pr1_73, pr2_73, pr0_74, pr1_74, pr2_74, pr0_75, pr1_75, pr2_75, pr0_76, pr1_76, pr2_76, pr0_77, pr1_77, pr2_77, pr0_78, pr1_78, pr2_78, pr0_79, pr1_79, pr2_79, pr0_80, pr1_80, pr2_80, pr0_81, pr1_81, pr2_81, pr0_82, pr1_82, pr2_82, pr0_83, pr1_83, pr2_83, pr0_84, pr1_84, pr2_84, okF_tv, okF_no, okF_n1, okF_i, okLi, okOv, ok33] <;> assumption) | decide | (simp only [mkN_nn, mkN_fl, sX_fl, sX_nn, List.length_append, List.length_cons, List.length_nil, List.length_map]; omega) | (dsimp only; omega)) only [d10, eq_self, decide_true, decide_false, ti_b, b2i_t, b2i_f, aK, aL, aF, aSz, aBin, aDiv, aB, aAt, aNd, aArgs, aCall, aIf, bCmp, bZ, bAnd, bOr, bNot, bTT, bIf, ab_ok, ab_no, ab_none, ab_ab, ab_ite, aok_ok, aok_none, og_ok, og_none, vbin_i, vb8_i, vput_i, vI_i, cmp_i, hold_eq, hold_ne, hold_lt, hold_ge, hold_gt, hold_le, b2i_0, ss_b, ss_ite, oAdd, oSub, oMul, Option.bind_some, A0of, va_up, List.length_nil, List.length_cons, List.getD_cons_zero, List.getD_cons_succ, List.getD_nil, if_true, if_false, Bool.not_not, Bool.not_true, Bool.not_false, Bool.false_eq_true, reduceIte, Nat.reduceSub, Nat.reduceAdd, Nat.reduceEqDiff, m10, m12, m13, d1, x_make]
      rfl
  have hlen : o + (base ++ don.map tv).length < ALM := by simp only [fS] at hr; omega
  rw [rn_seq, rn_set, k2 _ (by simpa [va_up] using l10) rfl rfl, ab_ok]
  have er := x_rule (tk := tk) (ps := ps4) (f := ((o, base ++ don.map tv), gg)) (j := mkN j4 c2) (m := n) (a := tMp h.2 (nI b)) (b := tTo e t (ps.1 + 1)) (p := nI b) (by omega) (by rw [mkN_nn]; omega)
  simp (disch := first | assumption | omega | (simp only [pr0_1, pr1_1, pr2_1, pr0_10, pr1_10, pr2_10, pr0_11, pr1_11, pr2_11, pr0_12, pr1_12, pr2_12, pr0_13, pr1_13, pr2_13, pr0_14, pr1_14, pr2_14, pr0_15, pr1_15, pr2_15, pr0_16, pr1_16, pr2_16, pr0_17, pr1_17, pr2_17, pr0_18, pr1_18, pr2_18, pr0_19, pr1_19, pr2_19, pr0_20, pr1_20, pr2_20, pr0_30, pr1_30, pr2_30, pr0_31, pr1_31, pr2_31, pr0_32, pr1_32, pr2_32, pr0_33, pr1_33, pr2_33, pr0_34, pr1_34, pr2_34, pr0_35, pr1_35, pr2_35, pr0_36, pr1_36, pr2_36, pr0_37, pr1_37, pr2_37, pr0_50, pr1_50, pr2_50, pr0_51, pr1_51, pr2_51, pr0_52, pr1_52, pr2_52, pr0_53, pr1_53, pr2_53, pr0_54, pr1_54, pr2_54, pr0_70, pr1_70, pr2_70, pr0_71, pr1_71, pr2_71, pr0_72, pr1_72, pr2_72, pr0_73, pr1_73, pr2_73, pr0_74, pr1_74, pr2_74, pr0_75, pr1_75, pr2_75, pr0_76, pr1_76, pr2_76, pr0_77, pr1_77, pr2_77, pr0_78, pr1_78, pr2_78, pr0_79, pr1_79, pr2_79, pr0_80, pr1_80, pr2_80, pr0_81, pr1_81, pr2_81, pr0_82, pr1_82, pr2_82, pr0_83, pr1_83, pr2_83, pr0_84, pr1_84, pr2_84, okF_tv, okF_no, okF_n1, okF_i, okLi, okOv, ok33] <;> assumption) | decide | (simp only [mkN_nn, mkN_fl, sX_fl, sX_nn, List.length_append, List.length_cons, List.length_nil, List.length_map]; omega) | (dsimp only; omega)) only [rn_seq, rn_add, rn_set, aCall, aArgs, aL, aK, ab_ok, A0of, va_up, List.length_nil, List.length_cons, List.getD_cons_zero, List.getD_cons_succ, List.getD_nil, if_true, if_false, Bool.not_not, Bool.not_true, Bool.not_false, Bool.false_eq_true, reduceIte, Nat.reduceSub, Nat.reduceAdd, Nat.reduceEqDiff, l6, er, xa13, og_ok, x_takes]
  rw [show base ++ don.map tv ++ [tv (tRule (tMp h.2 (nI b)) (tTo e t (ps.1 + 1)) (nI b))] = base ++ (don ++ [tRule (tMp h.2 (nI b)) (tTo e t (ps.1 + 1)) (nI b)]).map tv by simp]
  refine hK e ps4 (mkN (mkN j4 c2) 1) _ g4 ((hj4.mk _).mk _) (by simp only [mkN_nn]; omega) ?_ ?_ ?_ rfl
  · intro k hk
    simp only [va_up]
    rw [if_neg (by omega), if_neg (by omega), if_neg (by omega), if_neg (by omega), if_neg (by omega), if_neg (by omega), if_neg (by omega)]
  · simpa [va_up] using l9
  · simpa [va_up] using l8
/-- what has to hold before -/
theorem x_cls1 {h : Int32 × List TR} {nm : Option (Int32 × Nat)} {p : PA α} {K B0 C0 : KT} (hn : 5 ≤ n) (hP : PRX tk ps f j (n + 1)) (hj : je false j0 j) (hnm : nmOK nm) (h2 : h.2.length ≤ 20000) (l3 : LV 3 = .int (nmV nm).1) (l4 : LV 4 = .int (nmV nm).2) (l8 : LV 8 = .int (nI h.2.length)) (l9 : LV 9 = .int h.1)
    (hR : ps.1 < Tn tk → ¬ (decide (h.1 = 6) || isProt h.1) = true → CTx false em tk fo j0 B (rn ((zSeq (zOpF oAdd 3 (aK 1)) (zSeq (zSet 3 (aL 9)) (zSeq (zSet 4 (aL 8)) (zSeq (zSet 11 (aIf (bCmp .eq (aL 8) (aK 1)) (aPop 13) (aCall (aX n) 47 [(aL 7), (aK 34), (aK 33), (aL 6)]))) (zSeq (zSet 12 (aF 3)) (zSeq (zSet 13 (aCall (aX n) 53 [(aK 0)])) (zSeq (zSet 13 (aIf (bCmp .eq (aL 10) (aK (-1))) (aL 13) (aCall (aX n) 21 [(aK 16), (aL 13), (aL 10), (aK (-1)), (aL 12)]))) (zSeq (zAdd 13 (aCall (aX n) 56 [(aL 11), (aL 13), (aL 6)])) (zSet 5 (aCall (aX n) 10 [(aK 44)])))))))))) LV (stX tk ps f j)) K B0 C0) (p (ps.1 + 1, ps.2))) :
    CTx false em tk fo j0 B (rn ((zSeq (zEx (aCall (aX n) 16 [(aCall (aX n) 11 [(aK 45)]), (aK 1)])) (zSeq (zEx (aCall (aX n) 16 [(aIf (bAnd (bCmp .ne (aL 9) (aK 6)) (bNot (bZ .ne (aCall (aX n) 49 [(aL 9)])))) (aK 1) (aK 0)), (aK 6)])) (zSeq (zEx (aCall (aX n) 16 [(aIf (bOr (bCmp .eq (aL 3) (aK (-1))) (bAnd (bCmp .eq (aL 3) (aL 9)) (bCmp .eq (aL 4) (aL 8)))) (aK 1) (aK 0)), (aK 3)])) (zSeq (zOpF oAdd 3 (aK 1)) (zSeq (zSet 3 (aL 9)) (zSeq (zSet 4 (aL 8)) (zSeq (zSet 11 (aIf (bCmp .eq (aL 8) (aK 1)) (aPop 13) (aCall (aX n) 47 [(aL 7), (aK 34), (aK 33), (aL 6)]))) (zSeq (zSet 12 (aF 3)) (zSeq (zSet 13 (aCall (aX n) 53 [(aK 0)])) (zSeq (zSet 13 (aIf (bCmp .eq (aL 10) (aK (-1))) (aL 13) (aCall (aX n) 21 [(aK 16), (aL 13), (aL 10), (aK (-1)), (aL 12)]))) (zSeq (zAdd 13 (aCall (aX n) 56 [(aL 11), (aL 13), (aL 6)])) (zSet 5 (aCall (aX n) 10 [(aK 44)]))))))))))))) LV (stX tk ps f j)) K B0 C0) (if sg tk ps.1 45 = false then pflt 1 ps else if (decide (h.1 = 6) || isProt h.1) = true then pflt 6 ps else if nmB2 nm h.1 h.2.length = true then pflt 3 ps else p (ps.1 + 1, ps.2)) := by
  obtain ⟨ht, hps, ha, ho, hfr, hfl, hS⟩ := id hP
  have ha2 : ps.1 ≤ tk.1.length := ha
  have hf3 : ∀ ps', 0 < (stX tk ps' f j).fl := fun _ => hfl
  have e1 : aCall (aX n) 11 [(aK 45)] LV (stX tk ps f j) = some (some (.int (b2i (sg tk ps.1 45))), stX tk ps f j) := by
    simp (disch := first | assumption | omega | (simp only [pr0_1, pr1_1, pr2_1, pr0_10, pr1_10, pr2_10, pr0_11, pr1_11, pr2_11, pr0_12, pr1_12, pr2_12, pr0_13, pr1_13, pr2_13, pr0_14, pr1_14, pr2_14, pr0_15, pr1_15, pr2_15, pr0_16, pr1_16, pr2_16, pr0_17, pr1_17, pr2_17, pr0_18, pr1_18, pr2_18, pr0_19, pr1_19, pr2_19, pr0_20, pr1_20, pr2_20, pr0_30, pr1_30, pr2_30, pr0_31, pr1_31, pr2_31, pr0_32, pr1_32, pr2_32, pr0_33, pr1_33, pr2_33, pr0_34, pr1_34, pr2_34, pr0_35, pr1_35, pr2_35, pr0_36, pr1_36, pr2_36, pr0_37, pr1_37, pr2_37, pr0_50, pr1_50, pr2_50, pr0_51, pr1_51, pr2_51, pr0_52, pr1_52, pr2_52, pr0_53, pr1_53, pr2_53, pr0_54, pr1_54, pr2_54, pr0_70, pr1_70, pr2_70, pr0_71, pr1_71, pr2_71, pr0_72, pr1_72, pr2_72, pr0_73, pr1_73, pr2_73, pr0_74, pr1_74, pr2_74, pr0_75, pr1_75, pr2_75, pr0_76, pr1_76, pr2_76, pr0_77, pr1_77, pr2_77, pr0_78, pr1_78, pr2_78, pr0_79, pr1_79, pr2_79, pr0_80, pr1_80, pr2_80, pr0_81, pr1_81, pr2_81, pr0_82, pr1_82, pr2_82, pr0_83, pr1_83, pr2_83, pr0_84, pr1_84, pr2_84, okF_tv, okF_no, okF_n1, okF_i, okLi, okOv, ok33] <;> assumption) | decide | (simp only [mkN_nn, mkN_fl, sX_fl, sX_nn, List.length_append, List.length_cons, List.length_nil, List.length_map]; omega) | (dsimp only; omega)) only [d10, eq_self, decide_true, decide_false, ti_b, b2i_t, b2i_f, aK, aL, aF, aSz, aBin, aDiv, aB, aAt, aNd, aArgs, aCall, aIf, bCmp, bZ, bAnd, bOr, bNot, bTT, bIf, ab_ok, ab_no, ab_none, ab_ab, ab_ite, aok_ok, aok_none, og_ok, og_none, vbin_i, vb8_i, vput_i, vI_i, cmp_i, hold_eq, hold_ne, hold_lt, hold_ge, hold_gt, hold_le, b2i_0, ss_b, ss_ite, oAdd, oSub, oMul, Option.bind_some, A0of, va_up, List.length_nil, List.length_cons, List.getD_cons_zero, List.getD_cons_succ, List.getD_nil, if_true, if_false, Bool.not_not, Bool.not_true, Bool.not_false, Bool.false_eq_true, reduceIte, Nat.reduceSub, Nat.reduceAdd, Nat.reduceEqDiff, x_isSign]
  have e2 : (bAnd (bCmp .ne (aL 9) (aK 6)) (bNot (bZ .ne (aCall (aX n) 49 [(aL 9)])))) LV (stX tk ps f j) = some (some (!(decide (h.1 = 6) || isProt h.1)), stX tk ps f j) := by
    cases h6 : decide (h.1 = 6) <;> cases h7 : isProt h.1 <;> simp (disch := first | assumption | omega | (simp only [pr0_1, pr1_1, pr2_1, pr0_10, pr1_10, pr2_10, pr0_11, pr1_11, pr2_11, pr0_12, pr1_12, pr2_12, pr0_13, pr1_13, pr2_13, pr0_14, pr1_14, pr2_14, pr0_15, pr1_15, pr2_15, pr0_16, pr1_16, pr2_16, pr0_17, pr1_17, pr2_17, pr0_18, pr1_18, pr2_18, pr0_19, pr1_19, pr2_19, pr0_20, pr1_20, pr2_20, pr0_30, pr1_30, pr2_30, pr0_31, pr1_31, pr2_31, pr0_32, pr1_32, pr2_32, pr0_33, pr1_33, pr2_33, pr0_34, pr1_34, pr2_34, pr0_35, pr1_35, pr2_35, pr0_36, pr1_36, pr2_36, pr0_37, pr1_37, pr2_37, pr0_50, pr1_50, pr2_50, pr0_51, pr1_51, pr2_51, pr0_52, pr1_52, pr2_52, pr0_53, pr1_53, pr2_53, pr0_54, pr1_54, pr2_54, pr0_70, pr1_70, pr2_70, pr0_71, pr1_71, pr2_71, pr0_72, pr1_72, pr2_72, pr0_73, pr1_73, pr2_73, pr0_74, pr1_74, pr2_74, pr0_75, pr1_75, pr2_75, pr0_76, pr1_76, pr2_76, pr0_77, pr1_77, pr2_77, pr0_78, pr1_78, pr2_78, pr0_79, pr1_79, pr2_79, pr0_80, pr1_80, pr2_80, pr0_81, pr1_81, pr2_81, pr0_82, pr1_82, pr2_82, pr0_83, pr1_83, pr2_83, pr0_84, pr1_84, pr2_84, okF_tv, okF_no, okF_n1, okF_i, okLi, okOv, ok33] <;> assumption) | decide | (simp only [mkN_nn, mkN_fl, sX_fl, sX_nn, List.length_append, List.length_cons, List.length_nil, List.length_map]; omega) | (dsimp only; omega)) only [d10, eq_self, decide_true, decide_false, ti_b, b2i_t, b2i_f, aK, aL, aF, aSz, aBin, aDiv, aB, aAt, aNd, aArgs, aCall, aIf, bCmp, bZ, bAnd, bOr, bNot, bTT, bIf, ab_ok, ab_no, ab_none, ab_ab, ab_ite, aok_ok, aok_none, og_ok, og_none, vbin_i, vb8_i, vput_i, vI_i, cmp_i, hold_eq, hold_ne, hold_lt, hold_ge, hold_gt, hold_le, b2i_0, ss_b, ss_ite, oAdd, oSub, oMul, Option.bind_some, A0of, va_up, List.length_nil, List.length_cons, List.getD_cons_zero, List.getD_cons_succ, List.getD_nil, if_true, if_false, Bool.not_not, Bool.not_true, Bool.not_false, Bool.false_eq_true, reduceIte, Nat.reduceSub, Nat.reduceAdd, Nat.reduceEqDiff, l9, h6, x_isProtected, h7, Bool.true_or, Bool.false_or]
  have e3 : (bOr (bCmp .eq (aL 3) (aK (-1))) (bAnd (bCmp .eq (aL 3) (aL 9)) (bCmp .eq (aL 4) (aL 8)))) LV (stX tk ps f j) = some (some (!nmB2 nm h.1 h.2.length), stX tk ps f j) := by
    unfold nmB2
    cases nm with
    | none =>
      have d : decide ((nmV none).1 = -1) = true := rfl
      simp only [d10, eq_self, decide_true, decide_false, ti_b, b2i_t, b2i_f, aK, aL, aF, aSz, aBin, aDiv, aB, aAt, aNd, aArgs, aCall, aIf, bCmp, bZ, bAnd, bOr, bNot, bTT, bIf, ab_ok, ab_no, ab_none, ab_ab, ab_ite, aok_ok, aok_none, og_ok, og_none, vbin_i, vb8_i, vput_i, vI_i, cmp_i, hold_eq, hold_ne, hold_lt, hold_ge, hold_gt, hold_le, b2i_0, ss_b, ss_ite, oAdd, oSub, oMul, Option.bind_some, A0of, va_up, List.length_nil, List.length_cons, List.getD_cons_zero, List.getD_cons_succ, List.getD_nil, if_true, if_false, Bool.not_not, Bool.not_true, Bool.not_false, Bool.false_eq_true, reduceIte, Nat.reduceSub, Nat.reduceAdd, Nat.reduceEqDiff, l3, d]
    | some q =>
      obtain ⟨g1, g2⟩ := hnm q rfl
      have d : decide ((nmV (some q)).1 = -1) = false := decide_eq_false fun e => by
        have e' : q.1 = -1 := e
        rw [e'] at g1
        exact absurd g1 (by decide)
      have d2 : (nmV (some q)).1 = q.1 := rfl
      have d3 : decide ((nmV (some q)).2 = nI h.2.length) = decide (q.2 = h.2.length) := by
        rw [decide_eq_decide]
        exact ⟨fun e => nI_inj (by omega) (by omega) e, fun e => congrArg nI e⟩
      rw [d2] at d l3
      cases h6 : decide (q.1 = h.1) <;> cases h7 : decide (q.2 = h.2.length) <;> simp only [d10, eq_self, decide_true, decide_false, ti_b, b2i_t, b2i_f, aK, aL, aF, aSz, aBin, aDiv, aB, aAt, aNd, aArgs, aCall, aIf, bCmp, bZ, bAnd, bOr, bNot, bTT, bIf, ab_ok, ab_no, ab_none, ab_ab, ab_ite, aok_ok, aok_none, og_ok, og_none, vbin_i, vb8_i, vput_i, vI_i, cmp_i, hold_eq, hold_ne, hold_lt, hold_ge, hold_gt, hold_le, b2i_0, ss_b, ss_ite, oAdd, oSub, oMul, Option.bind_some, A0of, va_up, List.length_nil, List.length_cons, List.getD_cons_zero, List.getD_cons_succ, List.getD_nil, if_true, if_false, Bool.not_not, Bool.not_true, Bool.not_false, Bool.false_eq_true, reduceIte, Nat.reduceSub, Nat.reduceAdd, Nat.reduceEqDiff, l3, l4, l8, l9, d, d3, h6, h7, Bool.true_and, Bool.false_and]
  rw [rn_seq, rn_ex, aCall_2, e1, ab_ok, aK_e, ab_ok]
  cases g1 : sg tk ps.1 45 with
  | false =>
    rw [if_pos rfl, b2i_f, x_must0 (by omega) (hf3 _), ab_no]
    exact ctx_flt hj hfl
  | true =>
    rw [if_neg (by decide), b2i_t, x_must1 (by omega) (hf3 _), ab_ok, rn_seq, rn_ex, aCall_2, aIf01 e2, ab_ok, aK_e, ab_ok]
    cases g2 : (decide (h.1 = 6) || isProt h.1) with
    | true =>
      rw [if_pos rfl, Bool.not_true, b2i_f, x_must0 (by omega) (hf3 _), ab_no]
      exact ctx_flt hj hfl
    | false =>
      rw [if_neg (by decide), Bool.not_false, b2i_t, x_must1 (by omega) (hf3 _), ab_ok, rn_seq, rn_ex, aCall_2, aIf01 e3, ab_ok, aK_e, ab_ok]
      cases g3 : nmB2 nm h.1 h.2.length with
      | true =>
        rw [if_pos rfl, Bool.not_true, b2i_f, x_must0 (by omega) (hf3 _), ab_no]
        exact ctx_flt hj hfl
      | false =>
        rw [if_neg (by decide), Bool.not_false, b2i_t, x_must1 (by omega) (hf3 _), ab_ok]
        exact hR (sg_lt g1) (by rw [g2]; decide)
theorem x_cls {ty aq ap E : PA TR} {c o : Nat} {base : List V} {gg : (Nat × List V) × (Nat × List V)} {w1 w2 : V} (htg : PGr tk ty) (hty : CoX false tk c 30 38 [] ty) (haq : CoX true tk c 60 30 [] aq) (hqa : PGt tk aq) (hap : CoX true tk c 60 30 [] ap) (hq : PGt tk ap) (hEg : PGr tk E) (hE : CoX false tk c 30 53 [.int 0] E) (hn : max c 5 + 3 ≤ n) (N : Nat) :
    ∀ (M : Nat) (nm : Option (Int32 × Nat)) (don : List TR) (ps : PS) (j j0 : AS) (LV : AL) (K B0 C0 : KT) (B1 B : Nat) (F : (Int32 × Nat) × List TR → PA α), M ≤ N → PRX tk ps ((o, base ++ don.map tv), gg) j (n + 1) → je false j0 j → nmOK nm → LV 1 = w1 → LV 2 = w2 → LV 3 = .int (nmV nm).1 → LV 4 = .int (nmV nm).2 → LV 5 = .int 1 → j.nn + 100 * (Tn tk - ps.1) ≤ B1 →
    (∀ r ps' j' LV', PG tk ps ps' → 1 ≤ r.2.length → r.1.2 ≤ 600 → 0 ≤ r.1.1 ∧ r.1.1 ≤ 8191 → je false j0 j' → j'.nn + 100 * (Tn tk - ps'.1) + 90 * r.2.length + 40 * r.1.2 ≤ B1 → fS ((o, base ++ (don ++ r.2).map tv), gg) + j'.nn + 8 * (n + 1) + 100 * (Tn tk - ps'.1) + 30 + 40 * r.1.2 ≤ 29000 → LV' 1 = w1 → LV' 2 = w2 → LV' 3 = .int r.1.1 → LV' 4 = .int (nI r.1.2) → CTx false em tk fo j0 B (K LV' (stX tk ps' ((o, base ++ (don ++ r.2).map tv), gg) j')) (F r ps')) →
    CTx false em tk fo j0 B (rn (zWh (N + 1) (bZ .ne (aL 5)) (zSeq (zSet 6 (aF 3)) (zSeq (zSet 7 (aSz 13)) (zSeq (zEx (aCall (aX n) 86 [])) (zSeq (zSet 8 (aBin oSub (aSz 13) (aL 7))) (zSeq (zSet 9 (aF 21)) (zSeq (zSet 10 (aIf (bZ .ne (aCall (aX n) 10 [(aK 40)])) (aCall (aX n) 38 []) (aK (-1)))) (zSeq (zEx (aCall (aX n) 16 [(aCall (aX n) 11 [(aK 45)]), (aK 1)])) (zSeq (zEx (aCall (aX n) 16 [(aIf (bAnd (bCmp .ne (aL 9) (aK 6)) (bNot (bZ .ne (aCall (aX n) 49 [(aL 9)])))) (aK 1) (aK 0)), (aK 6)])) (zSeq (zEx (aCall (aX n) 16 [(aIf (bOr (bCmp .eq (aL 3) (aK (-1))) (bAnd (bCmp .eq (aL 3) (aL 9)) (bCmp .eq (aL 4) (aL 8)))) (aK 1) (aK 0)), (aK 3)])) (zSeq (zOpF oAdd 3 (aK 1)) (zSeq (zSet 3 (aL 9)) (zSeq (zSet 4 (aL 8)) (zSeq (zSet 11 (aIf (bCmp .eq (aL 8) (aK 1)) (aPop 13) (aCall (aX n) 47 [(aL 7), (aK 34), (aK 33), (aL 6)]))) (zSeq (zSet 12 (aF 3)) (zSeq (zSet 13 (aCall (aX n) 53 [(aK 0)])) (zSeq (zSet 13 (aIf (bCmp .eq (aL 10) (aK (-1))) (aL 13) (aCall (aX n) 21 [(aK 16), (aL 13), (aL 10), (aK (-1)), (aL 12)]))) (zSeq (zAdd 13 (aCall (aX n) 56 [(aL 11), (aL 13), (aL 6)])) (zSet 5 (aCall (aX n) 10 [(aK 44)]))))))))))))))))))) zSkip LV (stX tk ps ((o, base ++ don.map tv), gg) j)) K B0 C0) (pb (pCls tk ty aq ap E M nm) F ps) := by
  induction N with
  | zero =>
    intro M nm don ps j j0 LV K B0 C0 B1 B F hM
    have : M = 0 := by omega
    subst this
    intros
    exact trivial
  | succ N ih =>
    intro M nm don ps j j0 LV K B0 C0 B1 B F hM hP hj hnm h1 h2 h3 h4 h5 hB hK
    cases M with
    | zero => exact trivial
    | succ M =>
      obtain ⟨ht, hps, ha, ho, hfr, hfl, hS⟩ := id hP
      have hA : ALM = 30000 := rfl
      have e5 : ∀ A, bZ .ne (aL 5) LV A = some (some true, A) := by
        intro A
        simp only [d10, eq_self, decide_true, decide_false, ti_b, b2i_t, b2i_f, aK, aL, aF, aSz, aBin, aDiv, aB, aAt, aNd, aArgs, aCall, aIf, bCmp, bZ, bAnd, bOr, bNot, bTT, bIf, ab_ok, ab_no, ab_none, ab_ab, ab_ite, aok_ok, aok_none, og_ok, og_none, vbin_i, vb8_i, vput_i, vI_i, cmp_i, hold_eq, hold_ne, hold_lt, hold_ge, hold_gt, hold_le, b2i_0, ss_b, ss_ite, oAdd, oSub, oMul, Option.bind_some, A0of, va_up, List.length_nil, List.length_cons, List.getD_cons_zero, List.getD_cons_succ, List.getD_nil, if_true, if_false, Bool.not_not, Bool.not_true, Bool.not_false, Bool.false_eq_true, reduceIte, Nat.reduceSub, Nat.reduceAdd, Nat.reduceEqDiff, h5]
      rw [rn_wh, e5, ab_ok, if_pos rfl, rn_seq, rn_set, show ∀ (L : AL) (s : AS), aF 3 L s = some (some (.int (s.1 3)), s) from fun _ _ => rfl, ab_ok, sX_f3, rn_seq, rn_set, show ∀ (L : AL) (s : AS), aSz 13 L s = some (some (.int (nI (s.of 13 + (s.R 13).length))), s) from fun _ _ => rfl, ab_ok, sX_R13, sX_o13, rn_seq, rn_ex, aCall_nil]
      rw [pb_at (p := pCls tk ty aq ap E (M + 1) nm) (p' := pb (grQ tk (pHead tk aq ap)) (fun h => pb (pOty tk ty) fun t ps2 =>
      if sg tk ps2.1 45 = false then pflt 1 ps2
      else if (decide (h.1 = 6) || isProt h.1) = true then pflt 6 ps2
      else if nmB2 nm h.1 h.2.length = true then pflt 3 ps2
      else pb E (fun e ps4 => if sg tk ps4.1 44 = true then pb (pCls tk ty aq ap E M (some (h.1, h.2.length))) (fun r => pret (r.1, tRule (tMp h.2 (nI ps.1)) (tTo e t (ps2.1 + 1)) (nI ps.1) :: r.2)) (ps4.1 + 1, ps4.2)
        else some (.inl (((h.1, h.2.length), [tRule (tMp h.2 (nI ps.1)) (tTo e t (ps2.1 + 1)) (nI ps.1)]), ps4))) (ps2.1 + 1, ps2.2))) (ps' := ps) rfl, pb_pb]
      refine x_head haq hqa hap hq (by omega) hP hj fun nm' ts a j1 q1 q2 q3 q4 q5 q6 q7 => ?_
      have hl0 : fS ((o, base ++ don.map tv ++ ts.map tv), gg) = fS ((o, base ++ don.map tv), gg) + ts.length := by rw [fS_push, List.length_map]
      have hPa : PRX tk (a, ps.2) ((o, base ++ don.map tv ++ ts.map tv), gg) j1 (n + 1) := hP.at (by omega) q2 (hj.l q4) (by rw [hl0]; omega)
      have hb1 : (a, ps.2).1 ≤ tk.1.length := q2
      have g0 : PG tk ps (a, ps.2) := ⟨q1, q2, rfl, by dsimp only; omega, hps⟩
      have e8 : ∀ L : AL, L 7 = .int (nI (o + (base ++ don.map tv).length)) → (aBin oSub (aSz 13) (aL 7)) L (stX tk (a, ps.2) ((o, base ++ don.map tv ++ ts.map tv), gg) j1) = some (some (.int (nI ts.length)), stX tk (a, ps.2) ((o, base ++ don.map tv ++ ts.map tv), gg) j1) := by
        intro L l7
        have : nI (o + (base ++ don.map tv ++ ts.map tv).length) - nI (o + (base ++ don.map tv).length) = nI ts.length := by
          rw [nI_sub (by simp)]
          congr 1
          simp
          omega
        simp only [d10, eq_self, decide_true, decide_false, ti_b, b2i_t, b2i_f, aK, aL, aF, aSz, aBin, aDiv, aB, aAt, aNd, aArgs, aCall, aIf, bCmp, bZ, bAnd, bOr, bNot, bTT, bIf, ab_ok, ab_no, ab_none, ab_ab, ab_ite, aok_ok, aok_none, og_ok, og_none, vbin_i, vb8_i, vput_i, vI_i, cmp_i, hold_eq, hold_ne, hold_lt, hold_ge, hold_gt, hold_le, b2i_0, ss_b, ss_ite, oAdd, oSub, oMul, Option.bind_some, A0of, va_up, List.length_nil, List.length_cons, List.getD_cons_zero, List.getD_cons_succ, List.getD_nil, if_true, if_false, Bool.not_not, Bool.not_true, Bool.not_false, Bool.false_eq_true, reduceIte, Nat.reduceSub, Nat.reduceAdd, Nat.reduceEqDiff, sX_f3, sX_f17, sX_f18, sX_f21, sX_R0, sX_R1, sX_R2, sX_R10, sX_R11, sX_R12, sX_R13, sX_R14, sX_R15, sX_o0, sX_o1, sX_o2, sX_o10, sX_o11, sX_o12, sX_o13, sX_o14, sX_o15, sX_nn, sX_fl, l7, this]
      have e9 : ∀ (L : AL), aF 21 L (stX tk (a, ps.2) ((o, base ++ don.map tv ++ ts.map tv), gg) j1) = some (some (.int nm'), stX tk (a, ps.2) ((o, base ++ don.map tv ++ ts.map tv), gg) j1) := by
        intro L
        rw [← q5]
        rfl
      rw [rn_seq, rn_set, e8 _ rfl, ab_ok, rn_seq, rn_set, e9, ab_ok, rn_seq, rn_set]
      have main : ∀ (t : Option TR) (ps2 : PS) (j2 : AS) (L : AL), PGe tk (a, ps.2) ps2 → PRX tk ps2 ((o, base ++ don.map tv ++ ts.map tv), gg) j2 (n + 1) → je false j0 j2 → j2.nn + 100 * (Tn tk - ps2.1) ≤ j1.nn + 100 * (Tn tk - a) → (∀ k, k < 6 → L k = LV k) → L 6 = .int (nI ps.1) → L 7 = .int (nI (o + (base ++ don.map tv).length)) → L 8 = .int (nI ts.length) → L 9 = .int nm' → L 10 = ov t →
          CTx false em tk fo j0 B (rn ((zSeq (zEx (aCall (aX n) 16 [(aCall (aX n) 11 [(aK 45)]), (aK 1)])) (zSeq (zEx (aCall (aX n) 16 [(aIf (bAnd (bCmp .ne (aL 9) (aK 6)) (bNot (bZ .ne (aCall (aX n) 49 [(aL 9)])))) (aK 1) (aK 0)), (aK 6)])) (zSeq (zEx (aCall (aX n) 16 [(aIf (bOr (bCmp .eq (aL 3) (aK (-1))) (bAnd (bCmp .eq (aL 3) (aL 9)) (bCmp .eq (aL 4) (aL 8)))) (aK 1) (aK 0)), (aK 3)])) (zSeq (zOpF oAdd 3 (aK 1)) (zSeq (zSet 3 (aL 9)) (zSeq (zSet 4 (aL 8)) (zSeq (zSet 11 (aIf (bCmp .eq (aL 8) (aK 1)) (aPop 13) (aCall (aX n) 47 [(aL 7), (aK 34), (aK 33), (aL 6)]))) (zSeq (zSet 12 (aF 3)) (zSeq (zSet 13 (aCall (aX n) 53 [(aK 0)])) (zSeq (zSet 13 (aIf (bCmp .eq (aL 10) (aK (-1))) (aL 13) (aCall (aX n) 21 [(aK 16), (aL 13), (aL 10), (aK (-1)), (aL 12)]))) (zSeq (zAdd 13 (aCall (aX n) 56 [(aL 11), (aL 13), (aL 6)])) (zSet 5 (aCall (aX n) 10 [(aK 44)]))))))))))))) L (stX tk ps2 ((o, base ++ don.map tv ++ ts.map tv), gg) j2)) (fun L A => rn (zSkip L A) (fun L A => rn (zWh (N + 1) (bZ .ne (aL 5)) (zSeq (zSet 6 (aF 3)) (zSeq (zSet 7 (aSz 13)) (zSeq (zEx (aCall (aX n) 86 [])) (zSeq (zSet 8 (aBin oSub (aSz 13) (aL 7))) (zSeq (zSet 9 (aF 21)) (zSeq (zSet 10 (aIf (bZ .ne (aCall (aX n) 10 [(aK 40)])) (aCall (aX n) 38 []) (aK (-1)))) (zSeq (zEx (aCall (aX n) 16 [(aCall (aX n) 11 [(aK 45)]), (aK 1)])) (zSeq (zEx (aCall (aX n) 16 [(aIf (bAnd (bCmp .ne (aL 9) (aK 6)) (bNot (bZ .ne (aCall (aX n) 49 [(aL 9)])))) (aK 1) (aK 0)), (aK 6)])) (zSeq (zEx (aCall (aX n) 16 [(aIf (bOr (bCmp .eq (aL 3) (aK (-1))) (bAnd (bCmp .eq (aL 3) (aL 9)) (bCmp .eq (aL 4) (aL 8)))) (aK 1) (aK 0)), (aK 3)])) (zSeq (zOpF oAdd 3 (aK 1)) (zSeq (zSet 3 (aL 9)) (zSeq (zSet 4 (aL 8)) (zSeq (zSet 11 (aIf (bCmp .eq (aL 8) (aK 1)) (aPop 13) (aCall (aX n) 47 [(aL 7), (aK 34), (aK 33), (aL 6)]))) (zSeq (zSet 12 (aF 3)) (zSeq (zSet 13 (aCall (aX n) 53 [(aK 0)])) (zSeq (zSet 13 (aIf (bCmp .eq (aL 10) (aK (-1))) (aL 13) (aCall (aX n) 21 [(aK 16), (aL 13), (aL 10), (aK (-1)), (aL 12)]))) (zSeq (zAdd 13 (aCall (aX n) 56 [(aL 11), (aL 13), (aL 6)])) (zSet 5 (aCall (aX n) 10 [(aK 44)]))))))))))))))))))) zSkip L A) K B0 C0) B0 C0) (fun L A => K L A) (fun L A => rn (zSkip L A) (fun L A => rn (zWh (N + 1) (bZ .ne (aL 5)) (zSeq (zSet 6 (aF 3)) (zSeq (zSet 7 (aSz 13)) (zSeq (zEx (aCall (aX n) 86 [])) (zSeq (zSet 8 (aBin oSub (aSz 13) (aL 7))) (zSeq (zSet 9 (aF 21)) (zSeq (zSet 10 (aIf (bZ .ne (aCall (aX n) 10 [(aK 40)])) (aCall (aX n) 38 []) (aK (-1)))) (zSeq (zEx (aCall (aX n) 16 [(aCall (aX n) 11 [(aK 45)]), (aK 1)])) (zSeq (zEx (aCall (aX n) 16 [(aIf (bAnd (bCmp .ne (aL 9) (aK 6)) (bNot (bZ .ne (aCall (aX n) 49 [(aL 9)])))) (aK 1) (aK 0)), (aK 6)])) (zSeq (zEx (aCall (aX n) 16 [(aIf (bOr (bCmp .eq (aL 3) (aK (-1))) (bAnd (bCmp .eq (aL 3) (aL 9)) (bCmp .eq (aL 4) (aL 8)))) (aK 1) (aK 0)), (aK 3)])) (zSeq (zOpF oAdd 3 (aK 1)) (zSeq (zSet 3 (aL 9)) (zSeq (zSet 4 (aL 8)) (zSeq (zSet 11 (aIf (bCmp .eq (aL 8) (aK 1)) (aPop 13) (aCall (aX n) 47 [(aL 7), (aK 34), (aK 33), (aL 6)]))) (zSeq (zSet 12 (aF 3)) (zSeq (zSet 13 (aCall (aX n) 53 [(aK 0)])) (zSeq (zSet 13 (aIf (bCmp .eq (aL 10) (aK (-1))) (aL 13) (aCall (aX n) 21 [(aK 16), (aL 13), (aL 10), (aK (-1)), (aL 12)]))) (zSeq (zAdd 13 (aCall (aX n) 56 [(aL 11), (aL 13), (aL 6)])) (zSet 5 (aCall (aX n) 10 [(aK 44)]))))))))))))))))))) zSkip L A) K B0 C0) B0 C0))
            (pb (fun ps2 => if sg tk ps2.1 45 = false then pflt 1 ps2
              else if (decide (nm' = 6) || isProt nm') = true then pflt 6 ps2
              else if nmB2 nm nm' ts.length = true then pflt 3 ps2
              else pb E (fun e ps4 => if sg tk ps4.1 44 = true then pb (pCls tk ty aq ap E M (some (nm', ts.length))) (fun r => pret (r.1, tRule (tMp ts (nI ps.1)) (tTo e t (ps2.1 + 1)) (nI ps.1) :: r.2)) (ps4.1 + 1, ps4.2)
                else some (.inl (((nm', ts.length), [tRule (tMp ts (nI ps.1)) (tTo e t (ps2.1 + 1)) (nI ps.1)]), ps4))) (ps2.1 + 1, ps2.2)) F ps2) := by
        intro t ps2 j2 L gg2 hP2 hj2 hB2 lk l6 l7 l8 l9 l10
        have hts : ts.length ≤ 600 := by omega
        have hr : fS ((o, base ++ don.map tv), gg) + j2.nn + 8 * (n + 1) + 100 * (Tn tk - ps2.1) + 2 * ts.length + 10 ≤ 29000 := by omega
        have key := x_cls1 (em := em) (fo := fo) (j0 := j0) (B := B) (LV := L) (h := (nm', ts)) (nm := nm) (p := pb (pb E (fun e ps4 => if sg tk ps4.1 44 = true then pb (pCls tk ty aq ap E M (some (nm', ts.length))) (fun r => pret (r.1, tRule (tMp ts (nI ps.1)) (tTo e t (ps2.1 + 1)) (nI ps.1) :: r.2)) (ps4.1 + 1, ps4.2)
                else some (.inl (((nm', ts.length), [tRule (tMp ts (nI ps.1)) (tTo e t (ps2.1 + 1)) (nI ps.1)]), ps4)))) F) (K := fun L A => rn (zSkip L A) (fun L A => rn (zWh (N + 1) (bZ .ne (aL 5)) (zSeq (zSet 6 (aF 3)) (zSeq (zSet 7 (aSz 13)) (zSeq (zEx (aCall (aX n) 86 [])) (zSeq (zSet 8 (aBin oSub (aSz 13) (aL 7))) (zSeq (zSet 9 (aF 21)) (zSeq (zSet 10 (aIf (bZ .ne (aCall (aX n) 10 [(aK 40)])) (aCall (aX n) 38 []) (aK (-1)))) (zSeq (zEx (aCall (aX n) 16 [(aCall (aX n) 11 [(aK 45)]), (aK 1)])) (zSeq (zEx (aCall (aX n) 16 [(aIf (bAnd (bCmp .ne (aL 9) (aK 6)) (bNot (bZ .ne (aCall (aX n) 49 [(aL 9)])))) (aK 1) (aK 0)), (aK 6)])) (zSeq (zEx (aCall (aX n) 16 [(aIf (bOr (bCmp .eq (aL 3) (aK (-1))) (bAnd (bCmp .eq (aL 3) (aL 9)) (bCmp .eq (aL 4) (aL 8)))) (aK 1) (aK 0)), (aK 3)])) (zSeq (zOpF oAdd 3 (aK 1)) (zSeq (zSet 3 (aL 9)) (zSeq (zSet 4 (aL 8)) (zSeq (zSet 11 (aIf (bCmp .eq (aL 8) (aK 1)) (aPop 13) (aCall (aX n) 47 [(aL 7), (aK 34), (aK 33), (aL 6)]))) (zSeq (zSet 12 (aF 3)) (zSeq (zSet 13 (aCall (aX n) 53 [(aK 0)])) (zSeq (zSet 13 (aIf (bCmp .eq (aL 10) (aK (-1))) (aL 13) (aCall (aX n) 21 [(aK 16), (aL 13), (aL 10), (aK (-1)), (aL 12)]))) (zSeq (zAdd 13 (aCall (aX n) 56 [(aL 11), (aL 13), (aL 6)])) (zSet 5 (aCall (aX n) 10 [(aK 44)]))))))))))))))))))) zSkip L A) K B0 C0) B0 C0) (B0 := fun L A => K L A) (C0 := fun L A => rn (zSkip L A) (fun L A => rn (zWh (N + 1) (bZ .ne (aL 5)) (zSeq (zSet 6 (aF 3)) (zSeq (zSet 7 (aSz 13)) (zSeq (zEx (aCall (aX n) 86 [])) (zSeq (zSet 8 (aBin oSub (aSz 13) (aL 7))) (zSeq (zSet 9 (aF 21)) (zSeq (zSet 10 (aIf (bZ .ne (aCall (aX n) 10 [(aK 40)])) (aCall (aX n) 38 []) (aK (-1)))) (zSeq (zEx (aCall (aX n) 16 [(aCall (aX n) 11 [(aK 45)]), (aK 1)])) (zSeq (zEx (aCall (aX n) 16 [(aIf (bAnd (bCmp .ne (aL 9) (aK 6)) (bNot (bZ .ne (aCall (aX n) 49 [(aL 9)])))) (aK 1) (aK 0)), (aK 6)])) (zSeq (zEx (aCall (aX n) 16 [(aIf (bOr (bCmp .eq (aL 3) (aK (-1))) (bAnd (bCmp .eq (aL 3) (aL 9)) (bCmp .eq (aL 4) (aL 8)))) (aK 1) (aK 0)), (aK 3)])) (zSeq (zOpF oAdd 3 (aK 1)) (zSeq (zSet 3 (aL 9)) (zSeq (zSet 4 (aL 8)) (zSeq (zSet 11 (aIf (bCmp .eq (aL 8) (aK 1)) (aPop 13) (aCall (aX n) 47 [(aL 7), (aK 34), (aK 33), (aL 6)]))) (zSeq (zSet 12 (aF 3)) (zSeq (zSet 13 (aCall (aX n) 53 [(aK 0)])) (zSeq (zSet 13 (aIf (bCmp .eq (aL 10) (aK (-1))) (aL 13) (aCall (aX n) 21 [(aK 16), (aL 13), (aL 10), (aK (-1)), (aL 12)]))) (zSeq (zAdd 13 (aCall (aX n) 56 [(aL 11), (aL 13), (aL 6)])) (zSet 5 (aCall (aX n) 10 [(aK 44)]))))))))))))))))))) zSkip L A) K B0 C0) B0 C0) (by omega) hP2 hj2 hnm (by dsimp only; omega) ((lk 3 (by decide)).trans h3) ((lk 4 (by decide)).trans h4) l8 l9 (fun hlt hpr => ?_)
        · refine cast (congrArg _ ?_) key
          unfold pb
          dsimp only
          split
          · rfl
          · split
            · rfl
            · split
              · rfl
              · rfl
        · rw [pb_pb]
          refine x_cls2 (h := (nm', ts)) hEg hE (by omega) hlt q3 (by dsimp only; omega) hP2 hj2 hr l6 l7 l8 l9 l10 fun e ps4 j4 LV4 g4 hj4 hB4 lk4 m3 m4 m5 => ?_
          dsimp only at hB4 m3 m4
          generalize hz : tRule (tMp ts (nI ps.1)) (tTo e t (ps2.1 + 1)) (nI ps.1) = z
          have gq : PG tk ps ps4 := PG.trans (PGe.trans g0.e (PGe.trans gg2 (PG.one hP2.2.1 hlt).e)) g4
          have hl : fS ((o, base ++ (don ++ [z]).map tv), gg) = fS ((o, base ++ don.map tv), gg) + 1 := by simp [fS]; omega
          have l1' : LV4 1 = w1 := by rw [lk4 1 (by decide), lk 1 (by decide), h1]
          have l2' : LV4 2 = w2 := by rw [lk4 2 (by decide), lk 2 (by decide), h2]
          have hg1 := gg2.1
          have hg4 := g4.1
          have hg4' := g4.2.1
          dsimp only at hg1 hg4
          cases hc : sg tk ps4.1 44 with
          | true =>
            have hlt4 : ps4.1 < Tn tk := sg_lt hc
            rw [pb_at (p' := pb (pCls tk ty aq ap E M (some (nm', ts.length))) (fun r => pret (r.1, z :: r.2))) (ps' := (ps4.1 + 1, ps4.2)) (by simp only [hc, A0of, va_up, List.length_nil, List.length_cons, List.getD_cons_zero, List.getD_cons_succ, List.getD_nil, if_true, if_false, Bool.not_not, Bool.not_true, Bool.not_false, Bool.false_eq_true, reduceIte, Nat.reduceSub, Nat.reduceAdd, Nat.reduceEqDiff, hz]), pb_pb, rn_skip]
            simp only [if_true]
            refine ih M (some (nm', ts.length)) (don ++ [z]) (ps4.1 + 1, ps4.2) j4 j0 LV4 K B0 C0 (B1 - 90) B _ (by omega) (hP.nx (PG.trans gq.e (PG.one gq.2.2.2.2 hlt4)) (hj.l hj4) (by rw [hl]; dsimp only; omega)) hj4 ?_ l1' l2' m3 m4 (by rw [m5, hc]; rfl) (by dsimp only; omega) fun r ps'' j'' LV'' r1 r2 r3 r4 r5 r6 r7 r8 r9 r10 r11 => ?_
            · intro q e
              cases e
              exact ⟨q6.1, by dsimp only; omega⟩
            · have := hK (r.1, z :: r.2) ps'' j'' LV'' (PG.trans (PGe.trans gq.e (PG.one gq.2.2.2.2 hlt4).e) r1) (by simp) r3 r4 r5 (by simp; omega) (by simpa using r7) r8 r9 r10 r11
              simpa [pret_pb] using this
          | false =>
            rw [pb_val (v := ((nm', ts.length), [z])) (ps' := ps4) (by simp only [hc, A0of, va_up, List.length_nil, List.length_cons, List.getD_cons_zero, List.getD_cons_succ, List.getD_nil, if_true, if_false, Bool.not_not, Bool.not_true, Bool.not_false, Bool.false_eq_true, reduceIte, Nat.reduceSub, Nat.reduceAdd, Nat.reduceEqDiff, hz]), rn_skip, rn_wh]
            have e6 : ∀ A, bZ .ne (aL 5) LV4 A = some (some false, A) := by
              intro A
              simp only [d10, eq_self, decide_true, decide_false, ti_b, b2i_t, b2i_f, aK, aL, aF, aSz, aBin, aDiv, aB, aAt, aNd, aArgs, aCall, aIf, bCmp, bZ, bAnd, bOr, bNot, bTT, bIf, ab_ok, ab_no, ab_none, ab_ab, ab_ite, aok_ok, aok_none, og_ok, og_none, vbin_i, vb8_i, vput_i, vI_i, cmp_i, hold_eq, hold_ne, hold_lt, hold_ge, hold_gt, hold_le, b2i_0, ss_b, ss_ite, oAdd, oSub, oMul, Option.bind_some, A0of, va_up, List.length_nil, List.length_cons, List.getD_cons_zero, List.getD_cons_succ, List.getD_nil, if_true, if_false, Bool.not_not, Bool.not_true, Bool.not_false, Bool.false_eq_true, reduceIte, Nat.reduceSub, Nat.reduceAdd, Nat.reduceEqDiff, m5, hc]
            simp only [Bool.false_eq_true, if_false]
            rw [e6, ab_ok, if_neg (by decide)]
            exact hK ((nm', ts.length), [z]) ps4 j4 LV4 gq (by simp) hts q6 hj4 (by simp; omega) (by rw [hl]; dsimp only; omega) l1' l2' m3 m4
      cases h40 : sg tk a 40 with
      | false =>
        have e10 : ∀ L : AL, (aIf (bZ .ne (aCall (aX n) 10 [(aK 40)])) (aCall (aX n) 38 []) (aK (-1))) L (stX tk (a, ps.2) ((o, base ++ don.map tv ++ ts.map tv), gg) j1) = some (some (ov none), stX tk (a, ps.2) ((o, base ++ don.map tv ++ ts.map tv), gg) j1) := by
          intro L
          simp (disch := first | assumption | omega | (simp only [pr0_1, pr1_1, pr2_1, pr0_10, pr1_10, pr2_10, pr0_11, pr1_11, pr2_11, pr0_12, pr1_12, pr2_12, pr0_13, pr1_13, pr2_13, pr0_14, pr1_14, pr2_14, pr0_15, pr1_15, pr2_15, pr0_16, pr1_16, pr2_16, pr0_17, pr1_17, pr2_17, pr0_18, pr1_18, pr2_18, pr0_19, pr1_19, pr2_19, pr0_20, pr1_20, pr2_20, pr0_30, pr1_30, pr2_30, pr0_31, pr1_31, pr2_31, pr0_32, pr1_32, pr2_32, pr0_33, pr1_33, pr2_33, pr0_34, pr1_34, pr2_34, pr0_35, pr1_35, pr2_35, pr0_36, pr1_36, pr2_36, pr0_37, pr1_37, pr2_37, pr0_50, pr1_50, pr2_50, pr0_51, pr1_51, pr2_51, pr0_52, pr1_52, pr2_52, pr0_53, pr1_53, pr2_53, pr0_54, pr1_54, pr2_54, pr0_70, pr1_70, pr2_70, pr0_71, pr1_71, pr2_71, pr0_72, pr1_72, pr2_72, pr0_73, pr1_73, pr2_73, pr0_74, pr1_74, pr2_74, pr0_75, pr1_75, pr2_75, pr0_76, pr1_76, pr2_76, pr0_77, pr1_77, pr2_77, pr0_78, pr1_78, pr2_78, pr0_79, pr1_79, pr2_79, pr0_80, pr1_80, pr2_80, pr0_81, pr1_81, pr2_81, pr0_82, pr1_82, pr2_82, pr0_83, pr1_83, pr2_83, pr0_84, pr1_84, pr2_84, okF_tv, okF_no, okF_n1, okF_i, okLi, okOv, ok33] <;> assumption) | decide | (simp only [mkN_nn, mkN_fl, sX_fl, sX_nn, List.length_append, List.length_cons, List.length_nil, List.length_map]; omega) | (dsimp only; omega)) only [d10, eq_self, decide_true, decide_false, ti_b, b2i_t, b2i_f, aK, aL, aF, aSz, aBin, aDiv, aB, aAt, aNd, aArgs, aCall, aIf, bCmp, bZ, bAnd, bOr, bNot, bTT, bIf, ab_ok, ab_no, ab_none, ab_ab, ab_ite, aok_ok, aok_none, og_ok, og_none, vbin_i, vb8_i, vput_i, vI_i, cmp_i, hold_eq, hold_ne, hold_lt, hold_ge, hold_gt, hold_le, b2i_0, ss_b, ss_ite, oAdd, oSub, oMul, Option.bind_some, A0of, va_up, List.length_nil, List.length_cons, List.getD_cons_zero, List.getD_cons_succ, List.getD_nil, if_true, if_false, Bool.not_not, Bool.not_true, Bool.not_false, Bool.false_eq_true, reduceIte, Nat.reduceSub, Nat.reduceAdd, Nat.reduceEqDiff, x_takes, h40]
          rfl
        rw [e10, ab_ok, pb_pb, pb_val (v := none) (ps' := (a, ps.2)) (by unfold pOty; simp only [h40, Bool.false_eq_true, if_false])]
        exact main none (a, ps.2) j1 _ (PGe.rf hps q2) hPa q4 (Nat.le_refl _) (fun k hk => by simp only [va_up]; rw [if_neg (by omega), if_neg (by omega), if_neg (by omega), if_neg (by omega), if_neg (by omega)]) rfl rfl rfl rfl rfl
      | true =>
        have hlt : a < Tn tk := sg_lt h40
        have e10 : ∀ L : AL, (aIf (bZ .ne (aCall (aX n) 10 [(aK 40)])) (aCall (aX n) 38 []) (aK (-1))) L (stX tk (a, ps.2) ((o, base ++ don.map tv ++ ts.map tv), gg) j1) = aX n 38 [] (stX tk (a + 1, ps.2) ((o, base ++ don.map tv ++ ts.map tv), gg) j1) := by
          intro L
          simp (disch := first | assumption | omega | (simp only [pr0_1, pr1_1, pr2_1, pr0_10, pr1_10, pr2_10, pr0_11, pr1_11, pr2_11, pr0_12, pr1_12, pr2_12, pr0_13, pr1_13, pr2_13, pr0_14, pr1_14, pr2_14, pr0_15, pr1_15, pr2_15, pr0_16, pr1_16, pr2_16, pr0_17, pr1_17, pr2_17, pr0_18, pr1_18, pr2_18, pr0_19, pr1_19, pr2_19, pr0_20, pr1_20, pr2_20, pr0_30, pr1_30, pr2_30, pr0_31, pr1_31, pr2_31, pr0_32, pr1_32, pr2_32, pr0_33, pr1_33, pr2_33, pr0_34, pr1_34, pr2_34, pr0_35, pr1_35, pr2_35, pr0_36, pr1_36, pr2_36, pr0_37, pr1_37, pr2_37, pr0_50, pr1_50, pr2_50, pr0_51, pr1_51, pr2_51, pr0_52, pr1_52, pr2_52, pr0_53, pr1_53, pr2_53, pr0_54, pr1_54, pr2_54, pr0_70, pr1_70, pr2_70, pr0_71, pr1_71, pr2_71, pr0_72, pr1_72, pr2_72, pr0_73, pr1_73, pr2_73, pr0_74, pr1_74, pr2_74, pr0_75, pr1_75, pr2_75, pr0_76, pr1_76, pr2_76, pr0_77, pr1_77, pr2_77, pr0_78, pr1_78, pr2_78, pr0_79, pr1_79, pr2_79, pr0_80, pr1_80, pr2_80, pr0_81, pr1_81, pr2_81, pr0_82, pr1_82, pr2_82, pr0_83, pr1_83, pr2_83, pr0_84, pr1_84, pr2_84, okF_tv, okF_no, okF_n1, okF_i, okLi, okOv, ok33] <;> assumption) | decide | (simp only [mkN_nn, mkN_fl, sX_fl, sX_nn, List.length_append, List.length_cons, List.length_nil, List.length_map]; omega) | (dsimp only; omega)) only [d10, eq_self, decide_true, decide_false, ti_b, b2i_t, b2i_f, aK, aL, aF, aSz, aBin, aDiv, aB, aAt, aNd, aArgs, aCall, aIf, bCmp, bZ, bAnd, bOr, bNot, bTT, bIf, ab_ok, ab_no, ab_none, ab_ab, ab_ite, aok_ok, aok_none, og_ok, og_none, vbin_i, vb8_i, vput_i, vI_i, cmp_i, hold_eq, hold_ne, hold_lt, hold_ge, hold_gt, hold_le, b2i_0, ss_b, ss_ite, oAdd, oSub, oMul, Option.bind_some, A0of, va_up, List.length_nil, List.length_cons, List.getD_cons_zero, List.getD_cons_succ, List.getD_nil, if_true, if_false, Bool.not_not, Bool.not_true, Bool.not_false, Bool.false_eq_true, reduceIte, Nat.reduceSub, Nat.reduceAdd, Nat.reduceEqDiff, x_takes, h40]
        rw [e10, pb_pb, pb_at (p' := pb ty (fun t => pret (some t))) (ps' := (a + 1, ps.2)) (by unfold pOty; simp only [h40, if_true]), pb_pb]
        refine ctx_st hty htg (by omega) (by omega) (hPa.one hlt) q4 fun y ps2 j2 g2 hP2 hj2 hB2 => ?_
        dsimp only at hB2
        rw [pret_pb]
        exact main (some y) ps2 j2 _ (PGe.trans (PG.one (ps := (a, ps.2)) hps hlt).e g2.e) hP2 hj2 (by omega) (fun k hk => by simp only [va_up]; rw [if_neg (by omega), if_neg (by omega), if_neg (by omega), if_neg (by omega), if_neg (by omega)]) rfl rfl rfl rfl rfl
end XCL
