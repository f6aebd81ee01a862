/-! X: open, fixities -/
section XFX
variable {tk : TK} {ps ps' : PS} {f f1 f' : FX} {j j1 j' : AS} {m n k k' : Nat} {A A' : AS} {LV : AL}
theorem aCall_1 (rec : ARC) (t : Nat) (a : AX) (L : AL) (A : AS) : aCall rec t [a] L A = ab (a L A) fun x A => rec t [x] A := by
  unfold aCall aArgs aArgs
  rw [ab_ab]
  rfl
theorem aK_e (i : Int32) (L : AL) (A : AS) : aK i L A = some (some (.int i), A) := rfl
theorem aL_e (k : Nat) (L : AL) (A : AS) : aL k L A = some (some (L k), A) := rfl
theorem aIf01 {c : BX} {b : Bool} (h : c LV A = some (some b, A')) : aIf c (aK 1) (aK 0) LV A = some (some (.int (b2i b)), A') := by
  unfold aIf
  rw [h]
  cases b <;> rfl
def opnB (tk : TK) (i : Nat) : Bool := decide (kAt tk i = 2) || decide (kAt tk i = 5)
theorem opnB_iff {i : Nat} : (kAt tk i = 2 ∨ kAt tk i = 5) ↔ opnB tk i = true := by simp [opnB]
def opn1 (tk : TK) (i : Nat) : TR := (11, .int (if kAt tk i = 5 then -1 else vAt tk i), .int (if kAt tk i = 5 then vAt tk i else -1), no, nI i)
theorem x_opnB (hm : 1 ≤ m) (ht : tkOK tk) (ha : ps.1 ≤ tk.1.length) (LV : AL) : (bOr (bCmp .eq (aCall (aX m) 9 []) (aK 2)) (bCmp .eq (aCall (aX m) 9 []) (aK 5))) LV (stX tk ps f j) = some (some (opnB tk ps.1), stX tk ps f j) := by
  unfold opnB
  cases h1 : decide (kAt tk ps.1 = 2) <;> cases h2 : decide (kAt tk ps.1 = 5) <;> simp (disch := first | assumption | omega | (simp only [pr0_1, pr1_1, pr2_1, pr0_10, pr1_10, pr2_10, pr0_11, pr1_11, pr2_11, pr0_12, pr1_12, pr2_12, pr0_13, pr1_13, pr2_13, pr0_14, pr1_14, pr2_14, pr0_15, pr1_15, pr2_15, pr0_16, pr1_16, pr2_16, pr0_17, pr1_17, pr2_17, pr0_18, pr1_18, pr2_18, pr0_19, pr1_19, pr2_19, pr0_20, pr1_20, pr2_20, pr0_30, pr1_30, pr2_30, pr0_31, pr1_31, pr2_31, pr0_32, pr1_32, pr2_32, pr0_33, pr1_33, pr2_33, pr0_34, pr1_34, pr2_34, pr0_35, pr1_35, pr2_35, pr0_36, pr1_36, pr2_36, pr0_37, pr1_37, pr2_37, pr0_50, pr1_50, pr2_50, pr0_51, pr1_51, pr2_51, pr0_52, pr1_52, pr2_52, pr0_53, pr1_53, pr2_53, pr0_54, pr1_54, pr2_54, pr0_70, pr1_70, pr2_70, pr0_71, pr1_71, pr2_71, pr0_72, pr1_72, pr2_72, pr0_73, pr1_73, pr2_73, pr0_74, pr1_74, pr2_74, pr0_75, pr1_75, pr2_75, pr0_76, pr1_76, pr2_76, pr0_77, pr1_77, pr2_77, pr0_78, pr1_78, pr2_78, pr0_79, pr1_79, pr2_79, pr0_80, pr1_80, pr2_80, pr0_81, pr1_81, pr2_81, pr0_82, pr1_82, pr2_82, pr0_83, pr1_83, pr2_83, pr0_84, pr1_84, pr2_84, okF_tv, okF_no, okF_n1, okF_i, okLi, okOv, ok33] <;> assumption) | decide | (simp only [mkN_nn, mkN_fl, sX_fl, sX_nn, List.length_append, List.length_cons, List.length_nil, List.length_map]; omega) | (dsimp only; omega)) only [d10, eq_self, decide_true, decide_false, ti_b, b2i_t, b2i_f, aK, aL, aF, aSz, aBin, aDiv, aB, aAt, aNd, aArgs, aCall, aIf, bCmp, bZ, bAnd, bOr, bNot, bTT, bIf, ab_ok, ab_no, ab_none, ab_ab, ab_ite, aok_ok, aok_none, og_ok, og_none, vbin_i, vb8_i, vput_i, vI_i, cmp_i, hold_eq, hold_ne, hold_lt, hold_ge, hold_gt, hold_le, b2i_0, ss_b, ss_ite, oAdd, oSub, oMul, Option.bind_some, A0of, va_up, List.length_nil, List.length_cons, List.getD_cons_zero, List.getD_cons_succ, List.getD_nil, if_true, if_false, Bool.not_not, Bool.not_true, Bool.not_false, Bool.false_eq_true, reduceIte, Nat.reduceSub, Nat.reduceAdd, Nat.reduceEqDiff, x_kind', h1, h2, Bool.true_or, Bool.false_or]
theorem x_open1 {o : Nat} {row : List V} {g : (Nat × List V) × (Nat × List V)} (hn : 3 ≤ n) (hP : PRX tk ps ((o, row), g) j (n + 1)) (hc : opnB tk ps.1 = true) (K B0 C0 : KT) : ps.1 < Tn tk ∧ rn ((zSeq (zSet 3 (aIf (bCmp .eq (aCall (aX n) 9 []) (aK 5)) (aK 1) (aK 0))) (zSeq (zAdd 13 (aCall (aX n) 21 [(aK 11), (aIf (bZ .ne (aL 3)) (aK (-1)) (aCall (aX n) 12 [])), (aIf (bZ .ne (aL 3)) (aCall (aX n) 12 []) (aK (-1))), (aK (-1)), (aF 3)])) (zSeq (zOpF oAdd 3 (aK 1)) (zSet 2 (aIf (bOr (bCmp .eq (aCall (aX n) 9 []) (aK 2)) (bCmp .eq (aCall (aX n) 9 []) (aK 5))) (aK 1) (aK 0)))))) LV (stX tk ps ((o, row), g) j)) K B0 C0
    = K (va_up (va_up LV 3 (.int (b2i (decide (kAt tk ps.1 = 5))))) 2 (.int (b2i (opnB tk (ps.1 + 1))))) (stX tk (ps.1 + 1, ps.2) ((o, row ++ [tv (opn1 tk ps.1)]), g) (mkN j 1)) := by
  obtain ⟨ht, hps, ha, ho, hfr, hfl, hS⟩ := id hP
  have ha2 : ps.1 ≤ tk.1.length := ha
  have hA : ALM = 30000 := rfl
  have hlt : ps.1 < Tn tk := by
    refine k_lt ?_
    rcases opnB_iff.mpr hc with h | h <;> rw [h] <;> decide
  refine ⟨hlt, ?_⟩
  have hlt2 : ps.1 < tk.1.length := hlt
  have hlt3 : (ps.1 + 1, ps.2).1 ≤ tk.1.length := hlt
  have hlen : o + row.length < ALM := by simp only [fS] at hS; omega
  have hfr2 : ps.2.2.1 < 2 ^ 30 := by omega
  have e5 : ∀ LV : AL, bCmp .eq (aCall (aX n) 9 []) (aK 5) LV (stX tk ps ((o, row), g) j) = some (some (decide (kAt tk ps.1 = 5)), stX tk ps ((o, row), g) j) := by
    intro LV
    simp (disch := first | assumption | omega | (simp only [pr0_1, pr1_1, pr2_1, pr0_10, pr1_10, pr2_10, pr0_11, pr1_11, pr2_11, pr0_12, pr1_12, pr2_12, pr0_13, pr1_13, pr2_13, pr0_14, pr1_14, pr2_14, pr0_15, pr1_15, pr2_15, pr0_16, pr1_16, pr2_16, pr0_17, pr1_17, pr2_17, pr0_18, pr1_18, pr2_18, pr0_19, pr1_19, pr2_19, pr0_20, pr1_20, pr2_20, pr0_30, pr1_30, pr2_30, pr0_31, pr1_31, pr2_31, pr0_32, pr1_32, pr2_32, pr0_33, pr1_33, pr2_33, pr0_34, pr1_34, pr2_34, pr0_35, pr1_35, pr2_35, pr0_36, pr1_36, pr2_36, pr0_37, pr1_37, pr2_37, pr0_50, pr1_50, pr2_50, pr0_51, pr1_51, pr2_51, pr0_52, pr1_52, pr2_52, pr0_53, pr1_53, pr2_53, pr0_54, pr1_54, pr2_54, pr0_70, pr1_70, pr2_70, pr0_71, pr1_71, pr2_71, pr0_72, pr1_72, pr2_72, pr0_73, pr1_73, pr2_73, pr0_74, pr1_74, pr2_74, pr0_75, pr1_75, pr2_75, pr0_76, pr1_76, pr2_76, pr0_77, pr1_77, pr2_77, pr0_78, pr1_78, pr2_78, pr0_79, pr1_79, pr2_79, pr0_80, pr1_80, pr2_80, pr0_81, pr1_81, pr2_81, pr0_82, pr1_82, pr2_82, pr0_83, pr1_83, pr2_83, pr0_84, pr1_84, pr2_84, okF_tv, okF_no, okF_n1, okF_i, okLi, okOv, ok33] <;> assumption) | decide | (simp only [mkN_nn, mkN_fl, sX_fl, sX_nn, List.length_append, List.length_cons, List.length_nil, List.length_map]; omega) | (dsimp only; omega)) only [d10, eq_self, decide_true, decide_false, ti_b, b2i_t, b2i_f, aK, aL, aF, aSz, aBin, aDiv, aB, aAt, aNd, aArgs, aCall, aIf, bCmp, bZ, bAnd, bOr, bNot, bTT, bIf, ab_ok, ab_no, ab_none, ab_ab, ab_ite, aok_ok, aok_none, og_ok, og_none, vbin_i, vb8_i, vput_i, vI_i, cmp_i, hold_eq, hold_ne, hold_lt, hold_ge, hold_gt, hold_le, b2i_0, ss_b, ss_ite, oAdd, oSub, oMul, Option.bind_some, A0of, va_up, List.length_nil, List.length_cons, List.getD_cons_zero, List.getD_cons_succ, List.getD_nil, if_true, if_false, Bool.not_not, Bool.not_true, Bool.not_false, Bool.false_eq_true, reduceIte, Nat.reduceSub, Nat.reduceAdd, Nat.reduceEqDiff, x_kind']
  have ea : ∀ LV : AL, LV 3 = .int (b2i (decide (kAt tk ps.1 = 5))) → aCall (aX n) 21 [(aK 11), (aIf (bZ .ne (aL 3)) (aK (-1)) (aCall (aX n) 12 [])), (aIf (bZ .ne (aL 3)) (aCall (aX n) 12 []) (aK (-1))), (aK (-1)), (aF 3)] LV (stX tk ps ((o, row), g) j) = some (some (tv (opn1 tk ps.1)), stX tk ps ((o, row), g) (mkN j 1)) := by
    intro LV l3
    unfold opn1
    cases h5 : decide (kAt tk ps.1 = 5) with
    | true =>
      have h5' := of_decide_eq_true h5
      have em := x_makeN (tk := tk) (ps := ps) (f := ((o, row), g)) (j := j) (m := n) (k := 11) (i := -1) (p := nI ps.1) (b := .int (vAt tk ps.1)) (c := .int (-1)) (by omega) (by omega) (by decide) (nm_ok (by decide) hfr2) rfl rfl
      simp (disch := first | assumption | omega | (simp only [pr0_1, pr1_1, pr2_1, pr0_10, pr1_10, pr2_10, pr0_11, pr1_11, pr2_11, pr0_12, pr1_12, pr2_12, pr0_13, pr1_13, pr2_13, pr0_14, pr1_14, pr2_14, pr0_15, pr1_15, pr2_15, pr0_16, pr1_16, pr2_16, pr0_17, pr1_17, pr2_17, pr0_18, pr1_18, pr2_18, pr0_19, pr1_19, pr2_19, pr0_20, pr1_20, pr2_20, pr0_30, pr1_30, pr2_30, pr0_31, pr1_31, pr2_31, pr0_32, pr1_32, pr2_32, pr0_33, pr1_33, pr2_33, pr0_34, pr1_34, pr2_34, pr0_35, pr1_35, pr2_35, pr0_36, pr1_36, pr2_36, pr0_37, pr1_37, pr2_37, pr0_50, pr1_50, pr2_50, pr0_51, pr1_51, pr2_51, pr0_52, pr1_52, pr2_52, pr0_53, pr1_53, pr2_53, pr0_54, pr1_54, pr2_54, pr0_70, pr1_70, pr2_70, pr0_71, pr1_71, pr2_71, pr0_72, pr1_72, pr2_72, pr0_73, pr1_73, pr2_73, pr0_74, pr1_74, pr2_74, pr0_75, pr1_75, pr2_75, pr0_76, pr1_76, pr2_76, pr0_77, pr1_77, pr2_77, pr0_78, pr1_78, pr2_78, pr0_79, pr1_79, pr2_79, pr0_80, pr1_80, pr2_80, pr0_81, pr1_81, pr2_81, pr0_82, pr1_82, pr2_82, pr0_83, pr1_83, pr2_83, pr0_84, pr1_84, pr2_84, okF_tv, okF_no, okF_n1, okF_i, okLi, okOv, ok33] <;> assumption) | decide | (simp only [mkN_nn, mkN_fl, sX_fl, sX_nn, List.length_append, List.length_cons, List.length_nil, List.length_map]; omega) | (dsimp only; omega)) only [d10, eq_self, decide_true, decide_false, ti_b, b2i_t, b2i_f, aK, aL, aF, aSz, aBin, aDiv, aB, aAt, aNd, aArgs, aCall, aIf, bCmp, bZ, bAnd, bOr, bNot, bTT, bIf, ab_ok, ab_no, ab_none, ab_ab, ab_ite, aok_ok, aok_none, og_ok, og_none, vbin_i, vb8_i, vput_i, vI_i, cmp_i, hold_eq, hold_ne, hold_lt, hold_ge, hold_gt, hold_le, b2i_0, ss_b, ss_ite, oAdd, oSub, oMul, Option.bind_some, A0of, va_up, List.length_nil, List.length_cons, List.getD_cons_zero, List.getD_cons_succ, List.getD_nil, if_true, if_false, Bool.not_not, Bool.not_true, Bool.not_false, Bool.false_eq_true, reduceIte, Nat.reduceSub, Nat.reduceAdd, Nat.reduceEqDiff, sX_f3, sX_f17, sX_f18, sX_f21, sX_R0, sX_R1, sX_R2, sX_R10, sX_R11, sX_R12, sX_R13, sX_R14, sX_R15, sX_o0, sX_o1, sX_o2, sX_o10, sX_o11, sX_o12, sX_o13, sX_o14, sX_o15, sX_nn, sX_fl, l3, h5, h5', x_value, em]
    | false =>
      have h5' := of_decide_eq_false h5
      have hnm : nmB tk ps.1 = true := by
        rcases opnB_iff.mpr hc with h | h
        · simp [nmB, h]
        · exact absurd h h5'
      have em := x_makeN (tk := tk) (ps := ps) (f := ((o, row), g)) (j := j) (m := n) (k := 11) (i := vAt tk ps.1) (p := nI ps.1) (b := .int (-1)) (c := .int (-1)) (by omega) (by omega) (by decide) (v_name ht hnm hfr2) rfl rfl
      simp (disch := first | assumption | omega | (simp only [pr0_1, pr1_1, pr2_1, pr0_10, pr1_10, pr2_10, pr0_11, pr1_11, pr2_11, pr0_12, pr1_12, pr2_12, pr0_13, pr1_13, pr2_13, pr0_14, pr1_14, pr2_14, pr0_15, pr1_15, pr2_15, pr0_16, pr1_16, pr2_16, pr0_17, pr1_17, pr2_17, pr0_18, pr1_18, pr2_18, pr0_19, pr1_19, pr2_19, pr0_20, pr1_20, pr2_20, pr0_30, pr1_30, pr2_30, pr0_31, pr1_31, pr2_31, pr0_32, pr1_32, pr2_32, pr0_33, pr1_33, pr2_33, pr0_34, pr1_34, pr2_34, pr0_35, pr1_35, pr2_35, pr0_36, pr1_36, pr2_36, pr0_37, pr1_37, pr2_37, pr0_50, pr1_50, pr2_50, pr0_51, pr1_51, pr2_51, pr0_52, pr1_52, pr2_52, pr0_53, pr1_53, pr2_53, pr0_54, pr1_54, pr2_54, pr0_70, pr1_70, pr2_70, pr0_71, pr1_71, pr2_71, pr0_72, pr1_72, pr2_72, pr0_73, pr1_73, pr2_73, pr0_74, pr1_74, pr2_74, pr0_75, pr1_75, pr2_75, pr0_76, pr1_76, pr2_76, pr0_77, pr1_77, pr2_77, pr0_78, pr1_78, pr2_78, pr0_79, pr1_79, pr2_79, pr0_80, pr1_80, pr2_80, pr0_81, pr1_81, pr2_81, pr0_82, pr1_82, pr2_82, pr0_83, pr1_83, pr2_83, pr0_84, pr1_84, pr2_84, okF_tv, okF_no, okF_n1, okF_i, okLi, okOv, ok33] <;> assumption) | decide | (simp only [mkN_nn, mkN_fl, sX_fl, sX_nn, List.length_append, List.length_cons, List.length_nil, List.length_map]; omega) | (dsimp only; omega)) only [d10, eq_self, decide_true, decide_false, ti_b, b2i_t, b2i_f, aK, aL, aF, aSz, aBin, aDiv, aB, aAt, aNd, aArgs, aCall, aIf, bCmp, bZ, bAnd, bOr, bNot, bTT, bIf, ab_ok, ab_no, ab_none, ab_ab, ab_ite, aok_ok, aok_none, og_ok, og_none, vbin_i, vb8_i, vput_i, vI_i, cmp_i, hold_eq, hold_ne, hold_lt, hold_ge, hold_gt, hold_le, b2i_0, ss_b, ss_ite, oAdd, oSub, oMul, Option.bind_some, A0of, va_up, List.length_nil, List.length_cons, List.getD_cons_zero, List.getD_cons_succ, List.getD_nil, if_true, if_false, Bool.not_not, Bool.not_true, Bool.not_false, Bool.false_eq_true, reduceIte, Nat.reduceSub, Nat.reduceAdd, Nat.reduceEqDiff, sX_f3, sX_f17, sX_f18, sX_f21, sX_R0, sX_R1, sX_R2, sX_R10, sX_R11, sX_R12, sX_R13, sX_R14, sX_R15, sX_o0, sX_o1, sX_o2, sX_o10, sX_o11, sX_o12, sX_o13, sX_o14, sX_o15, sX_nn, sX_fl, l3, h5, h5', x_value, em]
  rw [rn_seq, rn_set, aIf01 (e5 _), ab_ok, rn_seq, rn_add, ea _ rfl, ab_ok, xa13 hlen, og_ok, rn_seq, rn_opF]
  have e3 : ∀ LV : AL, aK 1 LV (stX tk ps ((o, row ++ [tv (opn1 tk ps.1)]), g) (mkN j 1)) = some (some (.int 1), stX tk ps ((o, row ++ [tv (opn1 tk ps.1)]), g) (mkN j 1)) := fun _ => rfl
  rw [e3, ab_ok, sX_f3, vbin_i, Option.bind_some, vput_i, og_ok, show oAdd (nI ps.1) 1 = nI (ps.1 + 1) from nI_1 _, sX_p3, rn_set, aIf01 (x_opnB (by omega) ht hlt3 _), ab_ok]
theorem x_opened_loop {α : Type} {em : α → V} {fo : FX} {o : Nat} {base : List V} {g : (Nat × List V) × (Nat × List V)} {w : V} (hn : 3 ≤ n) (N : Nat) :
    ∀ (M : Nat) (don : List TR) (ps : PS) (j j0 : AS) (LV : AL) (K B0 C0 : KT) (B1 B : Nat) (F : List TR → PA α), M ≤ N → PRX tk ps ((o, base ++ don.map tv), g) j (n + 1) → je false j0 j → LV 1 = w → LV 2 = .int 1 → j.nn + 100 * (Tn tk - ps.1) ≤ B1 →
    (∀ ts ps' j' LV', PG tk ps ps' → 1 ≤ ts.length → je false j0 j' → j'.nn + 100 * (Tn tk - ps'.1) + 60 * ts.length ≤ B1 → fS ((o, base ++ (don ++ ts).map tv), g) + j'.nn + 8 * (n + 1) + 100 * (Tn tk - ps'.1) ≤ 29000 → LV' 1 = w → CTx false em tk fo j0 B (K LV' (stX tk ps' ((o, base ++ (don ++ ts).map tv), g) j')) (F ts ps')) →
    CTx false em tk fo j0 B (rn (zWh (N + 1) (bZ .ne (aL 2)) (zSeq (zEx (aCall (aX n) 16 [(aIf (bOr (bCmp .eq (aCall (aX n) 9 []) (aK 2)) (bCmp .eq (aCall (aX n) 9 []) (aK 5))) (aK 1) (aK 0)), (aK 1)])) (zSeq (zSet 3 (aIf (bCmp .eq (aCall (aX n) 9 []) (aK 5)) (aK 1) (aK 0))) (zSeq (zAdd 13 (aCall (aX n) 21 [(aK 11), (aIf (bZ .ne (aL 3)) (aK (-1)) (aCall (aX n) 12 [])), (aIf (bZ .ne (aL 3)) (aCall (aX n) 12 []) (aK (-1))), (aK (-1)), (aF 3)])) (zSeq (zOpF oAdd 3 (aK 1)) (zSet 2 (aIf (bOr (bCmp .eq (aCall (aX n) 9 []) (aK 2)) (bCmp .eq (aCall (aX n) 9 []) (aK 5))) (aK 1) (aK 0))))))) zSkip LV (stX tk ps ((o, base ++ don.map tv), g) j)) K B0 C0) (pb (pOpn tk M) F ps) := by
  induction N with
  | zero =>
    intro M don ps j j0 LV K B0 C0 B1 B F hM
    have : M = 0 := by omega
    subst this
    intros
    exact trivial
  | succ N ih =>
    intro M don ps j j0 LV K B0 C0 B1 B F hM hP hj hI h1 hB hK
    cases M with
    | zero => exact trivial
    | succ M =>
      obtain ⟨ht, hps, ha, ho, hfr, hfl, hS⟩ := id hP
      have ha2 : ps.1 ≤ tk.1.length := ha
      have hf3 : 0 < (stX tk ps ((o, base ++ don.map tv), g) j).fl := hfl
      have e2 : ∀ A, bZ .ne (aL 2) LV A = some (some true, A) := by
        intro A
        simp only [d10, eq_self, decide_true, decide_false, ti_b, b2i_t, b2i_f, aK, aL, aF, aSz, aBin, aDiv, aB, aAt, aNd, aArgs, aCall, aIf, bCmp, bZ, bAnd, bOr, bNot, bTT, bIf, ab_ok, ab_no, ab_none, ab_ab, ab_ite, aok_ok, aok_none, og_ok, og_none, vbin_i, vb8_i, vput_i, vI_i, cmp_i, hold_eq, hold_ne, hold_lt, hold_ge, hold_gt, hold_le, b2i_0, ss_b, ss_ite, oAdd, oSub, oMul, Option.bind_some, A0of, va_up, List.length_nil, List.length_cons, List.getD_cons_zero, List.getD_cons_succ, List.getD_nil, if_true, if_false, Bool.not_not, Bool.not_true, Bool.not_false, Bool.false_eq_true, reduceIte, Nat.reduceSub, Nat.reduceAdd, Nat.reduceEqDiff, h1]
      have e1 : ∀ LV : AL, aK 1 LV (stX tk ps ((o, base ++ don.map tv), g) j) = some (some (.int 1), stX tk ps ((o, base ++ don.map tv), g) j) := fun _ => rfl
      rw [rn_wh, e2, ab_ok, if_pos rfl, rn_seq, rn_ex, aCall_2, aIf01 (x_opnB (by omega) ht ha2 _), ab_ok, e1, ab_ok]
      cases hc : opnB tk ps.1 with
      | false =>
        rw [pb_at (p' := pflt 1) (ps' := ps) (by unfold pOpn; rw [if_neg (by rw [opnB_iff, hc]; decide)]), b2i_f, x_must0 (by omega) hf3, ab_no]
        exact ctx_flt hj hfl
      | true =>
        obtain ⟨hlt, e3⟩ := x_open1 (LV := LV) hn hP hc (fun L A => rn (zSkip L A) (fun L A => rn (zWh (N + 1) (bZ .ne (aL 2)) (zSeq (zEx (aCall (aX n) 16 [(aIf (bOr (bCmp .eq (aCall (aX n) 9 []) (aK 2)) (bCmp .eq (aCall (aX n) 9 []) (aK 5))) (aK 1) (aK 0)), (aK 1)])) (zSeq (zSet 3 (aIf (bCmp .eq (aCall (aX n) 9 []) (aK 5)) (aK 1) (aK 0))) (zSeq (zAdd 13 (aCall (aX n) 21 [(aK 11), (aIf (bZ .ne (aL 3)) (aK (-1)) (aCall (aX n) 12 [])), (aIf (bZ .ne (aL 3)) (aCall (aX n) 12 []) (aK (-1))), (aK (-1)), (aF 3)])) (zSeq (zOpF oAdd 3 (aK 1)) (zSet 2 (aIf (bOr (bCmp .eq (aCall (aX n) 9 []) (aK 2)) (bCmp .eq (aCall (aX n) 9 []) (aK 5))) (aK 1) (aK 0))))))) zSkip L A) K B0 C0) B0 C0) (fun L A => K L A) (fun L A => rn (zSkip L A) (fun L A => rn (zWh (N + 1) (bZ .ne (aL 2)) (zSeq (zEx (aCall (aX n) 16 [(aIf (bOr (bCmp .eq (aCall (aX n) 9 []) (aK 2)) (bCmp .eq (aCall (aX n) 9 []) (aK 5))) (aK 1) (aK 0)), (aK 1)])) (zSeq (zSet 3 (aIf (bCmp .eq (aCall (aX n) 9 []) (aK 5)) (aK 1) (aK 0))) (zSeq (zAdd 13 (aCall (aX n) 21 [(aK 11), (aIf (bZ .ne (aL 3)) (aK (-1)) (aCall (aX n) 12 [])), (aIf (bZ .ne (aL 3)) (aCall (aX n) 12 []) (aK (-1))), (aK (-1)), (aF 3)])) (zSeq (zOpF oAdd 3 (aK 1)) (zSet 2 (aIf (bOr (bCmp .eq (aCall (aX n) 9 []) (aK 2)) (bCmp .eq (aCall (aX n) 9 []) (aK 5))) (aK 1) (aK 0))))))) zSkip L A) K B0 C0) B0 C0)
        rw [b2i_t, x_must1 (by omega) hf3, ab_ok, e3, rn_skip]
        have psh : base ++ don.map tv ++ [tv (opn1 tk ps.1)] = base ++ (don ++ [opn1 tk ps.1]).map tv := by simp
        have hl : fS ((o, base ++ (don ++ [opn1 tk ps.1]).map tv), g) = fS ((o, base ++ don.map tv), g) + 1 := by simp [fS]; omega
        rw [psh]
        have g1 := PG.one hps hlt
        cases hc2 : opnB tk (ps.1 + 1) with
        | true =>
          rw [pb_at (p' := pb (pOpn tk M) (fun l => pret (opn1 tk ps.1 :: l))) (ps' := (ps.1 + 1, ps.2)) (by rw [show pOpn tk (M + 1) ps = _ from rfl]; unfold opn1; simp only [pOpn]; rw [if_pos (opnB_iff.mpr hc), if_pos (opnB_iff.mpr hc2)]), pb_pb]
          refine ih M (don ++ [opn1 tk ps.1]) (ps.1 + 1, ps.2) (mkN j 1) j0 _ K B0 C0 (B1 - 60) B _ (by omega) (hP.at (Nat.le_succ _) hlt ((je.rf (W := false) j).mk _) (by rw [hl, mkN_nn]; omega)) (hj.mk _) (by simpa [va_up] using hI) (by rw [b2i_t]; rfl) (by rw [mkN_nn]; dsimp only; omega) fun ts ps'' j'' LV'' r1 r2 r3 r4 r5 r6 => ?_
          have := hK (opn1 tk ps.1 :: ts) ps'' j'' LV'' (PG.trans g1.e r1) (by simp) r3 (by simp; omega) (by simpa using r5) r6
          simpa [pret_pb] using this
        | false =>
          rw [pb_val (v := [opn1 tk ps.1]) (ps' := (ps.1 + 1, ps.2)) (by unfold opn1; simp only [pOpn]; rw [if_pos (opnB_iff.mpr hc), if_neg (by rw [opnB_iff, hc2]; decide)]), rn_wh]
          have e4 : ∀ A, bZ .ne (aL 2) (va_up (va_up LV 3 (.int (b2i (decide (kAt tk ps.1 = 5))))) 2 (.int (b2i false))) A = some (some false, A) := fun A => rfl
          rw [e4, ab_ok, if_neg (by decide)]
          exact hK [opn1 tk ps.1] (ps.1 + 1, ps.2) (mkN j 1) _ g1 (by simp) (hj.mk _) (by rw [mkN_nn]; dsimp only; simp; omega) (by rw [hl, mkN_nn]; dsimp only; omega) (by simpa [va_up] using hI)
theorem x_opened : CoG tLi tk 5 50 103 [] (grE tk (pOpn tk LF)) := by
  intro k ps f j B hk hP hB; have hP0 := hP; obtain ⟨ht, hps, ha, ho, hfr, hfl, hS⟩ := hP0; obtain ⟨n, rfl⟩ := suc1 (m := k) (by omega); have hf2 : 0 < (stX tk ps f j).fl := hfl; have ha2 : ps.1 ≤ tk.1.length := ha; have hA : ALM = 30000 := rfl
  obtain ⟨⟨o, base⟩, g⟩ := f
  refine ctx_grE ?_
  simp only [eX_opened, zX_opened, amth_run, run_seq, run_set, fin_ok, aSz, kS_ok, A0of, va_up, List.length_nil, List.length_cons, List.getD_cons_zero, List.getD_cons_succ, List.getD_nil, if_true, if_false, Bool.not_not, Bool.not_true, Bool.not_false, Bool.false_eq_true, reduceIte, Nat.reduceSub, Nat.reduceAdd, Nat.reduceEqDiff, sX_f3, sX_f17, sX_f18, sX_f21, sX_R0, sX_R1, sX_R2, sX_R10, sX_R11, sX_R12, sX_R13, sX_R14, sX_R15, sX_o0, sX_o1, sX_o2, sX_o10, sX_o11, sX_o12, sX_o13, sX_o14, sX_o15, sX_nn, sX_fl]
  rw [show ∀ (LV : AL) A, aK 1 LV A = some (some (.int 1), A) from fun _ _ => rfl, kS_ok, run_seq, run_rn, ← pb_ret (pOpn tk LF)]
  have hP' : PRX tk ps ((o, base ++ ([] : List TR).map tv), g) j (n + 1) := by simpa using hP
  have := x_opened_loop (em := tLi) (fo := ((o, base), g)) (n := n) (o := o) (base := base) (g := g) (w := .int (nI (o + base.length))) (by omega) 99999 LF [] ps j j (va_up (va_up (A0of true []) 1 (.int (nI (o + base.length)))) 2 (.int 1)) (run [zRet (aCall (aX n) 25 [(aL 1)])] nk) nk nk (j.nn + 100 * (Tn tk - ps.1)) B (fun l => pret l) (by decide) hP' (je.rf (W := false) j) rfl rfl (Nat.le_refl _) fun ts ps' j' LV' r1 r2 r3 r4 r5 r6 => ?_
  · simpa using this
  · rw [List.nil_append, fS_push, List.length_map] at r5
    have el := x_list (tk := tk) (ps := ps') (j := j') (m := n) (by omega) (o := o) (base := base) (items := ts) (g := g) (by omega) (by simp [fS] at r5 ⊢; omega) (by omega)
    simp only [amth_run, run_nil, run_seq, run_skip, run_ret0, run_ret, run_set, run_inc, run_ex, run_if, run_putF, run_opF, run_opU, run_putS, run_opS, run_add, run_at, run_atB, run_sw, kS_ok, kS_no, kE_ok, kE_no, kI_t, kI_f, kI_no, kPF_ok, kOF_ok, kPS_ok, kOS_ok, kAD_ok, kAD_no, kT1_ok, kT2_ok, kB1_ok, kB2_ok, kSw_ok, fin_ok, fin_b, fin_0, fin_1, fin_v, fin_no, fin_none, d10, eq_self, decide_true, decide_false, ti_b, b2i_t, b2i_f, aK, aL, aF, aSz, aBin, aDiv, aB, aAt, aNd, aArgs, aCall, aIf, bCmp, bZ, bAnd, bOr, bNot, bTT, bIf, ab_ok, ab_no, ab_none, ab_ab, ab_ite, aok_ok, aok_none, og_ok, og_none, vbin_i, vb8_i, vput_i, vI_i, cmp_i, hold_eq, hold_ne, hold_lt, hold_ge, hold_gt, hold_le, b2i_0, ss_b, ss_ite, oAdd, oSub, oMul, Option.bind_some, A0of, va_up, List.length_nil, List.length_cons, List.getD_cons_zero, List.getD_cons_succ, List.getD_nil, if_true, if_false, Bool.not_not, Bool.not_true, Bool.not_false, Bool.false_eq_true, reduceIte, Nat.reduceSub, Nat.reduceAdd, Nat.reduceEqDiff, r6, List.nil_append, el]
    refine ctx_ret (r3.mk _) ?_
    rw [mkN_nn]
    omega
/-! fixities are changed -/
theorem xa11 {x : Int32} (h : ps.2.2.2.2.1.length < ALM) : vadd (stX tk ps f j) 11 (.int x) = some (stX tk (psFx ps (ps.2.2.2.1, ps.2.2.2.2.1 ++ [x], ps.2.2.2.2.2)) f j) := by
  rw [vadd_ok (by simp only [sX_f3, sX_f17, sX_f18, sX_f21, sX_R0, sX_R1, sX_R2, sX_R10, sX_R11, sX_R12, sX_R13, sX_R14, sX_R15, sX_o0, sX_o1, sX_o2, sX_o10, sX_o11, sX_o12, sX_o13, sX_o14, sX_o15, sX_nn, sX_fl, ints_len]; omega)]
  simp only [sX_f3, sX_f17, sX_f18, sX_f21, sX_R0, sX_R1, sX_R2, sX_R10, sX_R11, sX_R12, sX_R13, sX_R14, sX_R15, sX_o0, sX_o1, sX_o2, sX_o10, sX_o11, sX_o12, sX_o13, sX_o14, sX_o15, sX_nn, sX_fl, psFx]
  rw [show ints ps.2.2.2.2.1 ++ [Term.int x] = ints (ps.2.2.2.2.1 ++ [x]) by rw [ints_app]; rfl, sX_p11]
theorem xa12 {x : Int32} (h : ps.2.2.2.2.2.length < ALM) : vadd (stX tk ps f j) 12 (.int x) = some (stX tk (psFx ps (ps.2.2.2.1, ps.2.2.2.2.1, ps.2.2.2.2.2 ++ [x])) f j) := by
  rw [vadd_ok (by simp only [sX_f3, sX_f17, sX_f18, sX_f21, sX_R0, sX_R1, sX_R2, sX_R10, sX_R11, sX_R12, sX_R13, sX_R14, sX_R15, sX_o0, sX_o1, sX_o2, sX_o10, sX_o11, sX_o12, sX_o13, sX_o14, sX_o15, sX_nn, sX_fl, ints_len]; omega)]
  simp only [sX_f3, sX_f17, sX_f18, sX_f21, sX_R0, sX_R1, sX_R2, sX_R10, sX_R11, sX_R12, sX_R13, sX_R14, sX_R15, sX_o0, sX_o1, sX_o2, sX_o10, sX_o11, sX_o12, sX_o13, sX_o14, sX_o15, sX_nn, sX_fl, psFx]
  rw [show ints ps.2.2.2.2.2 ++ [Term.int x] = ints (ps.2.2.2.2.2 ++ [x]) by rw [ints_app]; rfl, sX_p12]
theorem getD_in {α : Type} {l : List α} {d : α} {i : Nat} (h : i < l.length) : l.getD i d = l[i] := by simp [List.getD, h]
theorem getD_out {α : Type} {l : List α} {d : α} {i : Nat} (h : l.length ≤ i) : l.getD i d = d := by simp [List.getD, List.getElem?_eq_none h]
theorem fxA_ok {q : FXS} (h : psOK q) (x : Int32) : 0 ≤ fxA q.1 x ∧ fxA q.1 x ≤ 20 := by
  unfold fxA
  by_cases hx : x.toNatClampNeg < q.1.length
  · rw [getD_in hx]
    exact h.2.1 _ (List.getElem_mem hx)
  · rw [getD_out (by omega)]
    exact ⟨by decide, by decide⟩
theorem fxCh_ok {q : FXS} {x v : Int32} (h : psOK q) (hx : 0 ≤ x ∧ x ≤ 8191) (hv : 0 ≤ v ∧ v ≤ 20) : psOK (fxCh x v q) := by
  have hf := fxA_ok h x
  obtain ⟨h1, h2, h3, h4, h5⟩ := h
  unfold fxCh
  refine ⟨by simpa using h1, fun y hy => ?_, by simp [h3], fun y hy => ?_, fun y hy => ?_⟩
  · rcases List.mem_or_eq_of_mem_set hy with hy | hy
    · exact h2 y hy
    · rw [hy]; exact hv
  · rcases List.mem_append.mp hy with hy | hy
    · exact h4 y hy
    · rw [List.mem_singleton.mp hy]; exact hx
  · rcases List.mem_append.mp hy with hy | hy
    · exact h5 y hy
    · rw [List.mem_singleton.mp hy]; exact hf
theorem x_change (hm : 1 ≤ m) {x v : Int32} (hq : psOK ps.2.2.2) (hl : ps.2.2.2.2.1.length < ALM) (hx : 0 ≤ x ∧ x ≤ 8191) (hv : 0 ≤ v ∧ v ≤ 20) : aX m 102 [.int x, .int v] (stX tk ps f j) = some (some (.int 0), stX tk (psFx ps (fxCh x v ps.2.2.2)) f j) := by
  obtain ⟨n, rfl⟩ := suc1 hm
  obtain ⟨b1, b2, b3, b4, b5⟩ := id hq
  have hl2 : ps.2.2.2.2.2.length < ALM := by omega
  obtain ⟨c1, c2⟩ := clamp_lt hx.1 hx.2
  have p0 : aix 0 (ints ps.2.2.2.1) (.int x) = some (.int (fxA ps.2.2.2.1 x)) := aix_fx b1 hx.1 hx.2
  have p3 : ∀ q : FXS, q.1.length = 8192 → vset (stX tk (psFx ps q) f j) 10 (.int x) (.int v) = some (stX tk (psFx ps (q.1.set x.toNatClampNeg v, q.2)) f j) := by
    intro q hq
    have := vset_nI (A := stX tk (psFx ps q) f j) (k := 10) (n := x.toNatClampNeg) (v := .int v) (by omega) (by simp only [sX_f3, sX_f17, sX_f18, sX_f21, sX_R0, sX_R1, sX_R2, sX_R10, sX_R11, sX_R12, sX_R13, sX_R14, sX_R15, sX_o0, sX_o1, sX_o2, sX_o10, sX_o11, sX_o12, sX_o13, sX_o14, sX_o15, sX_nn, sX_fl]; omega) (by simp only [sX_f3, sX_f17, sX_f18, sX_f21, sX_R0, sX_R1, sX_R2, sX_R10, sX_R11, sX_R12, sX_R13, sX_R14, sX_R15, sX_o0, sX_o1, sX_o2, sX_o10, sX_o11, sX_o12, sX_o13, sX_o14, sX_o15, sX_nn, sX_fl, psFx, ints_len]; omega)
    rw [← c2] at this
    rw [this]
    simp only [sX_f3, sX_f17, sX_f18, sX_f21, sX_R0, sX_R1, sX_R2, sX_R10, sX_R11, sX_R12, sX_R13, sX_R14, sX_R15, sX_o0, sX_o1, sX_o2, sX_o10, sX_o11, sX_o12, sX_o13, sX_o14, sX_o15, sX_nn, sX_fl, sX_p3, sX_p17, sX_p18, sX_p21, sX_p13, sX_p14, sX_p15, sX_p10, sX_p11, sX_p12, nI_1, nI_pred, psFx, Nat.sub_zero, ints_set]
  have p4 : isB8 (.int v) = true := by simp only [isB8, b8_ok hv.1 hv.2, decide_true]
  have p5 := p3 (ps.2.2.2.1, ps.2.2.2.2.1 ++ [x], ps.2.2.2.2.2 ++ [fxA ps.2.2.2.1 x]) b1
  have p1 := xa11 (tk := tk) (f := f) (j := j) (x := x) hl
  have p2 : vadd (stX tk (psFx ps (ps.2.2.2.1, ps.2.2.2.2.1 ++ [x], ps.2.2.2.2.2)) f j) 12 (.int (fxA ps.2.2.2.1 x)) = some (stX tk (psFx ps (ps.2.2.2.1, ps.2.2.2.2.1 ++ [x], ps.2.2.2.2.2 ++ [fxA ps.2.2.2.1 x])) f j) := xa12 (tk := tk) (ps := psFx ps (ps.2.2.2.1, ps.2.2.2.2.1 ++ [x], ps.2.2.2.2.2)) (f := f) (j := j) (x := fxA ps.2.2.2.1 x) hl2
  have es : (stX tk (psFx ps (ps.2.2.2.1, ps.2.2.2.2.1 ++ [x], ps.2.2.2.2.2)) f j).R 10 = ints ps.2.2.2.1 := rfl
  have eo : (stX tk (psFx ps (ps.2.2.2.1, ps.2.2.2.2.1 ++ [x], ps.2.2.2.2.2)) f j).of 10 = 0 := rfl
  simp only [eX_change, zX_change, amth_eq, rn_seq, rn_if, rn_set, rn_inc, rn_ex, rn_ret, rn_ret0, rn_skip, rn_putF, rn_opF, rn_opU, rn_putS, rn_opS, rn_at, rn_atB, rn_add, rn_swap, rn_sw, rn_brk, rn_cnt, fin_ok, fin_ab, fin_ite, fin_og, fin_b, fin_0, fin_1, fin_v, fin_no, fin_none, d10, eq_self, decide_true, decide_false, ti_b, b2i_t, b2i_f, aK, aL, aF, aSz, aBin, aDiv, aB, aAt, aNd, aArgs, aCall, aIf, bCmp, bZ, bAnd, bOr, bNot, bTT, bIf, ab_ok, ab_no, ab_none, ab_ab, ab_ite, aok_ok, aok_none, og_ok, og_none, vbin_i, vb8_i, vput_i, vI_i, cmp_i, hold_eq, hold_ne, hold_lt, hold_ge, hold_gt, hold_le, b2i_0, ss_b, ss_ite, oAdd, oSub, oMul, Option.bind_some, A0of, va_up, List.length_nil, List.length_cons, List.getD_cons_zero, List.getD_cons_succ, List.getD_nil, if_true, if_false, Bool.not_not, Bool.not_true, Bool.not_false, Bool.false_eq_true, reduceIte, Nat.reduceSub, Nat.reduceAdd, Nat.reduceEqDiff, p1, es, eo, p0, p2, vb8_i, b8_ok hv.1 hv.2, p4]
  rw [p5]
  rfl
end XFX
