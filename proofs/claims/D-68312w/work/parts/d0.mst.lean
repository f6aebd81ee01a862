/-! the state of M; its leaves -/
abbrev FM : Type := (Nat × List V) × (Nat × List V)
def chm (ch be : List Int32) : List Int32 := (ch.zip be).flatMap fun c => [c.1, c.2 - 1]
def fxm (fx : List Int32) : List Int32 := fx.map fun x => x - 1
def stM (ps : PS) (f : FM) (j : AS) : AS :=
  (fun k => if k = 13 then nI ps.1 else if k = 14 then nI ps.2.1 else if k = 11 then nI ps.2.2.1 else j.1 k,
   fun k => if k = 4 then ints (fxm ps.2.2.2.1) else if k = 5 then ints (chm ps.2.2.2.2.1 ps.2.2.2.2.2) else if k = 17 then f.1.2 else if k = 18 then f.2.2 else j.R k,
   fun k => if k = 17 then f.1.1 else if k = 18 then f.2.1 else if k < 17 then 0 else j.of k, j.nn, j.fl)
/-- the tokens stand in M's rows -/
def TKM (tk : TK) (j : AS) : Prop := j.1 3 = nI (Tn tk) ∧ (∀ i, i < Tn tk → (j.R 0)[i]? = some (.int (kAt tk i)) ∧ (j.R 1)[i]? = some (.int (vAt tk i)) ∧ (j.R 2)[i]? = some (.int (nAt tk i))) ∧ (j.R 0).all isI = true ∧ (j.R 1).all isI = true ∧ (j.R 2).all isI = true ∧ j.1 15 = 0 ∧ j.1 16 = -1
section STM
variable {tk : TK} {ps : PS} {f : FM} {j : AS}
theorem sM_f13 : (stM ps f j).1 13 = nI ps.1 := rfl
theorem sM_f14 : (stM ps f j).1 14 = nI ps.2.1 := rfl
theorem sM_f11 : (stM ps f j).1 11 = nI ps.2.2.1 := rfl
theorem sM_f3 : (stM ps f j).1 3 = j.1 3 := rfl
theorem sM_f19 : (stM ps f j).1 19 = j.1 19 := rfl
theorem sM_f20 : (stM ps f j).1 20 = j.1 20 := rfl
theorem sM_f21 : (stM ps f j).1 21 = j.1 21 := rfl
theorem sM_R0 : (stM ps f j).R 0 = j.R 0 := rfl
theorem sM_R1 : (stM ps f j).R 1 = j.R 1 := rfl
theorem sM_R2 : (stM ps f j).R 2 = j.R 2 := rfl
theorem sM_R4 : (stM ps f j).R 4 = ints (fxm ps.2.2.2.1) := rfl
theorem sM_R5 : (stM ps f j).R 5 = ints (chm ps.2.2.2.2.1 ps.2.2.2.2.2) := rfl
theorem sM_R17 : (stM ps f j).R 17 = f.1.2 := rfl
theorem sM_R18 : (stM ps f j).R 18 = f.2.2 := rfl
theorem sM_o0 : (stM ps f j).of 0 = 0 := rfl
theorem sM_o1 : (stM ps f j).of 1 = 0 := rfl
theorem sM_o2 : (stM ps f j).of 2 = 0 := rfl
theorem sM_o4 : (stM ps f j).of 4 = 0 := rfl
theorem sM_o5 : (stM ps f j).of 5 = 0 := rfl
theorem sM_o17 : (stM ps f j).of 17 = f.1.1 := rfl
theorem sM_o18 : (stM ps f j).of 18 = f.2.1 := rfl
theorem sM_nn : (stM ps f j).nn = j.nn := rfl
theorem sM_fl : (stM ps f j).fl = j.fl := rfl
theorem sM_p13 (n : Nat) : apF (stM ps f j) 13 (nI n) = stM (n, ps.2) f j := by
  unfold apF stM va_up
  refine Prod.ext (funext fun k => ?_) rfl
  by_cases h : k = 13 <;> simp [h]
theorem sM_p14 (n : Nat) : apF (stM ps f j) 14 (nI n) = stM (ps.1, n, ps.2.2) f j := by
  unfold apF stM va_up
  refine Prod.ext (funext fun k => ?_) rfl
  by_cases h : k = 14 <;> simp [h]
theorem sM_p11 (n : Nat) : apF (stM ps f j) 11 (nI n) = stM (ps.1, ps.2.1, n, ps.2.2.2) f j := by
  unfold apF stM va_up
  refine Prod.ext (funext fun k => ?_) rfl
  by_cases h : k = 11 <;> simp [h]
theorem sM_pk (k0 : Nat) (h3 : k0 ≠ 13) (h4 : k0 ≠ 14) (h1 : k0 ≠ 11) (v : Int32) : apF (stM ps f j) k0 v = stM ps f (apF j k0 v) := by
  unfold apF stM va_up
  refine Prod.ext (funext fun k => ?_) rfl
  by_cases h : k = k0
  · subst h
    simp [h3, h4, h1]
  · simp [h]
theorem sM_p19 (v : Int32) : apF (stM ps f j) 19 v = stM ps f (apF j 19 v) := sM_pk 19 (by decide) (by decide) (by decide) v
theorem sM_p20 (v : Int32) : apF (stM ps f j) 20 v = stM ps f (apF j 20 v) := sM_pk 20 (by decide) (by decide) (by decide) v
theorem sM_p21 (v : Int32) : apF (stM ps f j) 21 v = stM ps f (apF j 21 v) := sM_pk 21 (by decide) (by decide) (by decide) v
theorem sM_p17 (l : List V) : apR (stM ps f j) 17 l = stM ps ((f.1.1, l), f.2) j := by
  unfold apR stM va_up
  refine Prod.ext rfl (Prod.ext (funext fun k => ?_) rfl)
  by_cases h : k = 17 <;> simp [h]
theorem sM_p18 (l : List V) : apR (stM ps f j) 18 l = stM ps (f.1, (f.2.1, l)) j := by
  unfold apR stM va_up
  refine Prod.ext rfl (Prod.ext (funext fun k => ?_) rfl)
  by_cases h : k = 18 <;> simp [h]
theorem sM_p4 (l : List Int32) : apR (stM ps f j) 4 (ints (fxm l)) = stM (ps.1, ps.2.1, ps.2.2.1, l, ps.2.2.2.2) f j := by
  unfold apR stM va_up
  refine Prod.ext rfl (Prod.ext (funext fun k => ?_) rfl)
  by_cases h : k = 4 <;> simp [h]
end STM
section EVB
variable {L : AL} {A : AS} {c1 c2 : BX} {x y : Bool} {a : AX}
theorem bOr_e (h1 : c1 L A = some (some x, A)) (h2 : c2 L A = some (some y, A)) : bOr c1 c2 L A = some (some (x || y), A) := by
  unfold bOr
  rw [h1, ab_ok]
  cases x
  · simpa using h2
  · rfl
theorem bAnd_e (h1 : c1 L A = some (some x, A)) (h2 : c2 L A = some (some y, A)) : bAnd c1 c2 L A = some (some (x && y), A) := by
  unfold bAnd
  rw [h1, ab_ok]
  cases x
  · rfl
  · simpa using h2
theorem bNot_e (h1 : c1 L A = some (some x, A)) : bNot c1 L A = some (some (!x), A) := by
  unfold bNot
  rw [h1, ab_ok]
theorem bZn_e (h : a L A = some (some (.int (b2i x)), A)) : bZ .ne a L A = some (some x, A) := by
  unfold bZ
  rw [h, ab_ok]
  cases x <;> rfl
theorem bEq_e {i k : Int32} (h : a L A = some (some (.int i), A)) : bCmp .eq a (aK k) L A = some (some (decide (i = k)), A) := by
  unfold bCmp
  rw [h, ab_ok, aK_e, ab_ok, cmp_i, hold_eq]
  rfl
theorem bNe_e {i k : Int32} (h : a L A = some (some (.int i), A)) : bCmp .ne a (aK k) L A = some (some (!decide (i = k)), A) := by
  unfold bCmp
  rw [h, ab_ok, aK_e, ab_ok, cmp_i, hold_ne]
  rfl
/-- a method that answers yes or no -/
theorem mb_e {inst : Bool} {np : Nat} {vs : List V} (hl : vs.length = np) (h : c1 (A0of inst vs) A = some (some x, A)) : amth inst true true np (zRet (aIf c1 (aK 1) (aK 0))) vs A = some (some (.int (b2i x)), A) := by
  rw [amth_run, if_pos hl, run_ret, aIf01 h, fin_b]
theorem aCall0_b {rec : ARC} {t : Nat} (h : rec t [] A = some (some (.int (b2i x)), A)) : bZ .ne (aCall rec t []) L A = some (some x, A) := bZn_e h
theorem aCall1_b {rec : ARC} {t : Nat} {s : Int32} (h : rec t [.int s] A = some (some (.int (b2i x)), A)) : bZ .ne (aCall rec t [aK s]) L A = some (some x, A) := by
  refine bZn_e ?_
  rw [aCall_1, aK_e, ab_ok]
  exact h
end EVB
def ftM (A : AS) (k : Int32) : AS := apF (apF A 15 k) 16 (A.1 13)
section MLF
variable {tk : TK} {ps : PS} {f : FM} {j : AS} {m : Nat} {A : AS} {LV : AL}
theorem m_fail (hm : 1 ≤ m) (k w : Int32) : aM m 11 [.int k, .int w] A = some (none, apF (apF A 15 k) 16 w) := by
  obtain ⟨n, rfl⟩ := suc1 hm
  rw [eM_fail]
  rfl
theorem m_stop (hm : 2 ≤ m) : aM m 10 [] A = some (none, ftM A 1) := by
  obtain ⟨n, rfl⟩ := suc1 (m := m) (by omega)
  have hn : 1 ≤ n := by omega
  simp (disch := first | assumption | omega | (dsimp only; omega)) only [eM_stop, zM_stop, amth_eq, rn_seq, rn_if, rn_set, rn_inc, rn_ex, rn_ret, rn_ret0, rn_skip, rn_putF, rn_opF, rn_opU, rn_putS, rn_opS, rn_at, rn_atB, rn_add, rn_swap, rn_sw, rn_brk, rn_cnt, fin_ok, fin_ab, fin_ite, fin_og, fin_b, fin_0, fin_1, fin_v, fin_no, fin_none, d10, eq_self, decide_true, decide_false, ti_b, b2i_t, b2i_f, aK, aL, aF, aSz, aBin, aDiv, aB, aAt, aNd, aArgs, aCall, aIf, bCmp, bZ, bAnd, bOr, bNot, bTT, bIf, ab_ok, ab_no, ab_none, ab_ab, ab_ite, aok_ok, aok_none, og_ok, og_none, vbin_i, vb8_i, vput_i, vI_i, cmp_i, hold_eq, hold_ne, hold_lt, hold_ge, hold_gt, hold_le, b2i_0, ss_b, ss_ite, oAdd, oSub, oMul, Option.bind_some, A0of, va_up, List.length_nil, List.length_cons, List.getD_cons_zero, List.getD_cons_succ, List.getD_nil, if_true, if_false, Bool.not_not, Bool.not_true, Bool.not_false, Bool.false_eq_true, reduceIte, Nat.reduceSub, Nat.reduceAdd, Nat.reduceEqDiff, m_fail]
  rfl
theorem aF_e (k : Nat) (L : AL) (A : AS) : aF k L A = some (some (.int (A.1 k)), A) := rfl
theorem mtk0 (hT : TKM tk j) {i : Nat} (h : i < Tn tk) (hl : Tn tk ≤ 3000) : aix 0 (j.R 0) (.int (nI i)) = some (.int (kAt tk i)) := by
  rw [aix_nI (by omega) (Nat.zero_le _), Nat.sub_zero]
  exact (hT.2.1 i h).1
theorem mtk1 (hT : TKM tk j) {i : Nat} (h : i < Tn tk) (hl : Tn tk ≤ 3000) : aix 0 (j.R 1) (.int (nI i)) = some (.int (vAt tk i)) := by
  rw [aix_nI (by omega) (Nat.zero_le _), Nat.sub_zero]
  exact (hT.2.1 i h).2.1
theorem mtk2 (hT : TKM tk j) {i : Nat} (h : i < Tn tk) (hl : Tn tk ≤ 3000) : aix 0 (j.R 2) (.int (nI i)) = some (.int (nAt tk i)) := by
  rw [aix_nI (by omega) (Nat.zero_le _), Nat.sub_zero]
  exact (hT.2.1 i h).2.2
theorem tk_len (ht : tkOK tk) : Tn tk ≤ 3000 := ht.2.2.1
/-- what stands where it reads -/
theorem mAt0 (ht : tkOK tk) (hT : TKM tk j) {i : Nat} {a : AX} (h : i < Tn tk) (ha : a LV (stM ps f j) = some (some (.int (nI i)), stM ps f j)) : aAt 0 a LV (stM ps f j) = some (some (.int (kAt tk i)), stM ps f j) := by
  unfold aAt
  rw [ha, ab_ok, sM_R0, sM_o0, mtk0 hT h (tk_len ht)]
  rfl
theorem mAt1 (ht : tkOK tk) (hT : TKM tk j) {i : Nat} {a : AX} (h : i < Tn tk) (ha : a LV (stM ps f j) = some (some (.int (nI i)), stM ps f j)) : aAt 1 a LV (stM ps f j) = some (some (.int (vAt tk i)), stM ps f j) := by
  unfold aAt
  rw [ha, ab_ok, sM_R1, sM_o1, mtk1 hT h (tk_len ht)]
  rfl
theorem mAt2 (ht : tkOK tk) (hT : TKM tk j) {i : Nat} {a : AX} (h : i < Tn tk) (ha : a LV (stM ps f j) = some (some (.int (nI i)), stM ps f j)) : aAt 2 a LV (stM ps f j) = some (some (.int (nAt tk i)), stM ps f j) := by
  unfold aAt
  rw [ha, ab_ok, sM_R2, sM_o2, mtk2 hT h (tk_len ht)]
  rfl
theorem mF13 : aF 13 LV (stM ps f j) = some (some (.int (nI ps.1)), stM ps f j) := rfl
/-- is there a token left -/
theorem mLt (ht : tkOK tk) (hT : TKM tk j) {i : Nat} {a : AX} (hi : i < 2 ^ 30) (ha : a LV (stM ps f j) = some (some (.int (nI i)), stM ps f j)) : bCmp .lt a (aF 3) LV (stM ps f j) = some (some (decide (i < Tn tk)), stM ps f j) := by
  have h3 := tk_len ht
  unfold bCmp
  rw [ha, ab_ok, aF_e, ab_ok, sM_f3, hT.1, cmp_i, hold_lt]
  have : decide (nI i < nI (Tn tk)) = decide (i < Tn tk) := by
    rw [decide_eq_decide]
    exact nI_ltI (by omega) (by omega)
  rw [this]
  rfl
theorem m_is (hm : 1 ≤ m) (ht : tkOK tk) (hT : TKM tk j) (ha : ps.1 ≤ Tn tk) (s : Int32) : aM m 6 [.int s] (stM ps f j) = some (some (.int (b2i (sg tk ps.1 s))), stM ps f j) := by
  obtain ⟨n, rfl⟩ := suc1 hm
  have h3 := tk_len ht
  rw [eM_is, zM_is]
  refine mb_e rfl ?_
  have e1 := mLt (LV := A0of true [.int s]) (f := f) (ps := ps) ht hT (i := ps.1) (by omega) mF13
  by_cases h : ps.1 < Tn tk
  · have e2 := bEq_e (k := 1) (mAt0 (LV := A0of true [.int s]) (f := f) (ps := ps) ht hT h mF13)
    have e3 : bCmp .eq (aAt 1 (aF 13)) (aL 1) (A0of true [.int s]) (stM ps f j) = some (some (decide (vAt tk ps.1 = s)), stM ps f j) := by
      unfold bCmp
      rw [mAt1 ht hT h mF13, ab_ok, aL_e, ab_ok, show A0of true [.int s] 1 = .int s from rfl, cmp_i, hold_eq]
      rfl
    rw [bAnd_e (bAnd_e e1 e2) e3, decide_eq_true h]
    rfl
  · rw [decide_eq_false h] at e1
    have : sg tk ps.1 s = false := by
      unfold sg
      rw [kAt_out (Nat.not_lt.mp h)]
      rfl
    rw [this]
    unfold bAnd
    rw [e1]
    rfl
theorem m_kind (hm : 1 ≤ m) (ht : tkOK tk) (hT : TKM tk j) (ha : ps.1 ≤ Tn tk) : aM m 8 [] (stM ps f j) = some (some (.int (kAt tk ps.1)), stM ps f j) := by
  obtain ⟨n, rfl⟩ := suc1 hm
  have h3 := tk_len ht
  rw [eM_kind, zM_kind, amth_run, List.length_nil, if_pos rfl, run_ret, fin_ok]
  have e1 := mLt (LV := A0of true []) (f := f) (ps := ps) ht hT (i := ps.1) (by omega) mF13
  unfold aIf
  rw [e1, ab_ok]
  by_cases h : ps.1 < Tn tk
  · rw [decide_eq_true h, if_pos rfl, mAt0 ht hT h mF13]
  · rw [decide_eq_false h, if_neg (by decide), aK_e, kAt_out (Nat.not_lt.mp h)]
theorem m_eat (hm : 2 ≤ m) (ht : tkOK tk) (hT : TKM tk j) (ha : ps.1 ≤ Tn tk) (s : Int32) : aM m 9 [.int s] (stM ps f j) = some (some (.int (b2i (sg tk ps.1 s))), stM (if sg tk ps.1 s = true then (ps.1 + 1, ps.2) else ps) f j) := by
  obtain ⟨n, rfl⟩ := suc1 (m := m) (by omega)
  have e := m_is (m := n) (f := f) (by omega) ht hT ha s
  cases h : sg tk ps.1 s <;> rw [h] at e <;> simp only [eM_eat, zM_eat, amth_eq, rn_seq, rn_if, rn_set, rn_inc, rn_ex, rn_ret, rn_ret0, rn_skip, rn_putF, rn_opF, rn_opU, rn_putS, rn_opS, rn_at, rn_atB, rn_add, rn_swap, rn_sw, rn_brk, rn_cnt, fin_ok, fin_ab, fin_ite, fin_og, fin_b, fin_0, fin_1, fin_v, fin_no, fin_none, d10, eq_self, decide_true, decide_false, ti_b, b2i_t, b2i_f, aK, aL, aF, aSz, aBin, aDiv, aB, aAt, aNd, aArgs, aCall, aIf, bCmp, bZ, bAnd, bOr, bNot, bTT, bIf, ab_ok, ab_no, ab_none, ab_ab, ab_ite, aok_ok, aok_none, og_ok, og_none, vbin_i, vb8_i, vput_i, vI_i, cmp_i, hold_eq, hold_ne, hold_lt, hold_ge, hold_gt, hold_le, b2i_0, ss_b, ss_ite, oAdd, oSub, oMul, Option.bind_some, A0of, va_up, List.length_nil, List.length_cons, List.getD_cons_zero, List.getD_cons_succ, List.getD_nil, if_true, if_false, Bool.not_not, Bool.not_true, Bool.not_false, Bool.false_eq_true, reduceIte, Nat.reduceSub, Nat.reduceAdd, Nat.reduceEqDiff, e, h, sM_f13, nI_1, sM_p13] <;> rfl
theorem m_need (hm : 3 ≤ m) (ht : tkOK tk) (hT : TKM tk j) (ha : ps.1 ≤ Tn tk) (s : Int32) : aM m 33 [.int s] (stM ps f j) = if sg tk ps.1 s = true then some (some (.int 0), stM (ps.1 + 1, ps.2) f j) else some (none, ftM (stM ps f j) 1) := by
  obtain ⟨n, rfl⟩ := suc1 (m := m) (by omega)
  have e := m_is (m := n) (f := f) (by omega) ht hT ha s
  have e2 := m_stop (m := n) (A := stM ps f j) (by omega)
  cases h : sg tk ps.1 s <;> rw [h] at e <;> simp only [eM_need, zM_need, amth_eq, rn_seq, rn_if, rn_set, rn_inc, rn_ex, rn_ret, rn_ret0, rn_skip, rn_putF, rn_opF, rn_opU, rn_putS, rn_opS, rn_at, rn_atB, rn_add, rn_swap, rn_sw, rn_brk, rn_cnt, fin_ok, fin_ab, fin_ite, fin_og, fin_b, fin_0, fin_1, fin_v, fin_no, fin_none, d10, eq_self, decide_true, decide_false, ti_b, b2i_t, b2i_f, aK, aL, aF, aSz, aBin, aDiv, aB, aAt, aNd, aArgs, aCall, aIf, bCmp, bZ, bAnd, bOr, bNot, bTT, bIf, ab_ok, ab_no, ab_none, ab_ab, ab_ite, aok_ok, aok_none, og_ok, og_none, vbin_i, vb8_i, vput_i, vI_i, cmp_i, hold_eq, hold_ne, hold_lt, hold_ge, hold_gt, hold_le, b2i_0, ss_b, ss_ite, oAdd, oSub, oMul, Option.bind_some, A0of, va_up, List.length_nil, List.length_cons, List.getD_cons_zero, List.getD_cons_succ, List.getD_nil, if_true, if_false, Bool.not_not, Bool.not_true, Bool.not_false, Bool.false_eq_true, reduceIte, Nat.reduceSub, Nat.reduceAdd, Nat.reduceEqDiff, e, e2, sM_f13, nI_1, sM_p13] <;> rfl
theorem m_enter (hm : 2 ≤ m) (ho : ps.2.1 ≤ 32) : aM m 15 [] (stM ps f j) = if ps.2.1 < 32 then some (some (.int 0), stM (ps.1, ps.2.1 + 1, ps.2.2) f j) else some (none, ftM (stM ps f j) 5) := by
  obtain ⟨n, rfl⟩ := suc1 (m := m) (by omega)
  have e2 := m_fail (m := n) (A := stM ps f j) (by omega) 5 (nI ps.1)
  have e : decide (nI ps.2.1 = 32) = decide (¬ ps.2.1 < 32) := by
    rw [decide_eq_decide]
    constructor
    · intro h q
      have := nI_inj (by omega) (by decide) (show nI ps.2.1 = nI 32 from h)
      omega
    · intro h
      rw [show ps.2.1 = 32 by omega]
      rfl
  by_cases h : ps.2.1 < 32
  · rw [if_pos h]
    have e' : decide (nI ps.2.1 = 32) = false := by rw [e]; simp [h]
    simp only [eM_enter, zM_enter, amth_eq, rn_seq, rn_if, rn_set, rn_inc, rn_ex, rn_ret, rn_ret0, rn_skip, rn_putF, rn_opF, rn_opU, rn_putS, rn_opS, rn_at, rn_atB, rn_add, rn_swap, rn_sw, rn_brk, rn_cnt, fin_ok, fin_ab, fin_ite, fin_og, fin_b, fin_0, fin_1, fin_v, fin_no, fin_none, d10, eq_self, decide_true, decide_false, ti_b, b2i_t, b2i_f, aK, aL, aF, aSz, aBin, aDiv, aB, aAt, aNd, aArgs, aCall, aIf, bCmp, bZ, bAnd, bOr, bNot, bTT, bIf, ab_ok, ab_no, ab_none, ab_ab, ab_ite, aok_ok, aok_none, og_ok, og_none, vbin_i, vb8_i, vput_i, vI_i, cmp_i, hold_eq, hold_ne, hold_lt, hold_ge, hold_gt, hold_le, b2i_0, ss_b, ss_ite, oAdd, oSub, oMul, Option.bind_some, A0of, va_up, List.length_nil, List.length_cons, List.getD_cons_zero, List.getD_cons_succ, List.getD_nil, if_true, if_false, Bool.not_not, Bool.not_true, Bool.not_false, Bool.false_eq_true, reduceIte, Nat.reduceSub, Nat.reduceAdd, Nat.reduceEqDiff, sM_f13, sM_f14, e', nI_1, sM_p14]
  · rw [if_neg h]
    have e' : decide (nI ps.2.1 = 32) = true := by rw [e]; simp [h]
    simp only [eM_enter, zM_enter, amth_eq, rn_seq, rn_if, rn_set, rn_inc, rn_ex, rn_ret, rn_ret0, rn_skip, rn_putF, rn_opF, rn_opU, rn_putS, rn_opS, rn_at, rn_atB, rn_add, rn_swap, rn_sw, rn_brk, rn_cnt, fin_ok, fin_ab, fin_ite, fin_og, fin_b, fin_0, fin_1, fin_v, fin_no, fin_none, d10, eq_self, decide_true, decide_false, ti_b, b2i_t, b2i_f, aK, aL, aF, aSz, aBin, aDiv, aB, aAt, aNd, aArgs, aCall, aIf, bCmp, bZ, bAnd, bOr, bNot, bTT, bIf, ab_ok, ab_no, ab_none, ab_ab, ab_ite, aok_ok, aok_none, og_ok, og_none, vbin_i, vb8_i, vput_i, vI_i, cmp_i, hold_eq, hold_ne, hold_lt, hold_ge, hold_gt, hold_le, b2i_0, ss_b, ss_ite, oAdd, oSub, oMul, Option.bind_some, A0of, va_up, List.length_nil, List.length_cons, List.getD_cons_zero, List.getD_cons_succ, List.getD_nil, if_true, if_false, Bool.not_not, Bool.not_true, Bool.not_false, Bool.false_eq_true, reduceIte, Nat.reduceSub, Nat.reduceAdd, Nat.reduceEqDiff, sM_f13, sM_f14, e', e2]
    rfl
theorem m_isName (hm : 2 ≤ m) (ht : tkOK tk) (hT : TKM tk j) (ha : ps.1 ≤ Tn tk) : aM m 20 [] (stM ps f j) = some (some (.int (b2i (nmB tk ps.1))), stM ps f j) := by
  obtain ⟨n, rfl⟩ := suc1 (m := m) (by omega)
  rw [eM_isName, zM_isName]
  have hk : ∀ LV : AL, aCall (aM n) 8 [] LV (stM ps f j) = some (some (.int (kAt tk ps.1)), stM ps f j) := fun _ => m_kind (by omega) ht hT ha
  exact mb_e rfl (bOr_e (bEq_e (hk _)) (bEq_e (hk _)))
theorem fxm_at {fx : List Int32} (hl : fx.length = 8192) {v : Int32} (h0 : 0 ≤ v) (h1 : v ≤ 8191) : aix 0 (ints (fxm fx)) (.int v) = some (.int (fxA fx v - 1)) := by
  have hl' : (fxm fx).length = 8192 := by simp [fxm, hl]
  rw [aix_fx hl' h0 h1]
  obtain ⟨c1, c2⟩ := clamp_lt h0 h1
  unfold fxA fxm
  rw [getD_in (by simp; omega), getD_in (by omega)]
  simp
theorem fx_ge {x : Int32} (h0 : 0 ≤ x) (h1 : x ≤ 20) : decide (0 ≤ x - 1) = !decide (x = 0) := by
  have h8 : x ≤ 8191 := Int32.le_trans h1 (by decide)
  obtain ⟨c1, c2⟩ := clamp_lt h0 h8
  generalize x.toNatClampNeg = i at c1 c2
  subst c2
  cases i with
  | zero => decide
  | succ i =>
    rw [nI_pred]
    have e1 : decide ((0 : Int32) ≤ nI i) = true := decide_eq_true (by
      have : ¬ nI i < nI 0 := nI_nlt (Nat.zero_le _) (by omega)
      exact Int32.not_lt.mp this)
    have e2 : decide (nI (i + 1) = 0) = false := decide_eq_false fun h => by
      have := nI_inj (by omega) (by decide) (show nI (i + 1) = nI 0 from h)
      omega
    rw [e1, e2]
    rfl
theorem m_isOperatorAt (hm : 1 ≤ m) (ht : tkOK tk) (hT : TKM tk j) (hq : psOK ps.2.2.2) {i : Nat} (hi : i < 2 ^ 30) : aM m 74 [.int (nI i)] (stM ps f j) = some (some (.int (b2i (oprB tk ps.2.2.2.1 i))), stM ps f j) := by
  obtain ⟨n, rfl⟩ := suc1 hm
  have hL : ∀ A, aL 1 (A0of true [.int (nI i)]) A = some (some (.int (nI i)), A) := fun _ => rfl
  rw [eM_isOperatorAt, zM_isOperatorAt]
  refine mb_e rfl ?_
  have e1 := mLt (f := f) (ps := ps) ht hT hi (hL _)
  by_cases h : i < Tn tk
  · have hk := mAt0 (f := f) (ps := ps) ht hT h (hL _)
    have e2 := bAnd_e e1 (bOr_e (bEq_e (k := 2) hk) (bEq_e (k := 3) hk))
    rw [decide_eq_true h, Bool.true_and] at e2
    unfold oprB
    cases hn : nmB tk i with
    | false =>
      unfold nmB at hn
      rw [hn] at e2
      unfold bAnd at e2 ⊢
      rw [e2]
      rfl
    | true =>
      obtain ⟨_, g0, g1⟩ := nm_val ht hn
      have hv := mAt1 (f := f) (ps := ps) ht hT h (hL _)
      obtain ⟨x0, x1⟩ := fxA_ok hq (vAt tk i)
      have e3 : bZ .ge (aAt 4 (aAt 1 (aL 1))) (A0of true [.int (nI i)]) (stM ps f j) = some (some (!decide (fxA ps.2.2.2.1 (vAt tk i) = 0)), stM ps f j) := by
        unfold bZ aAt at *
        rw [hv, ab_ok, sM_R4, sM_o4, fxm_at hq.1 g0 g1, aok_ok, ab_ok, cmp_i, hold_ge, fx_ge x0 x1]
        rfl
      unfold nmB at hn
      rw [hn] at e2
      rw [bAnd_e e2 e3]
  · rw [decide_eq_false h] at e1
    have : oprB tk ps.2.2.2.1 i = false := by
      unfold oprB nmB
      rw [kAt_out (Nat.not_lt.mp h)]
      rfl
    rw [this]
    unfold bAnd
    rw [e1]
    rfl
theorem m_isOperator (hm : 3 ≤ m) (ht : tkOK tk) (hT : TKM tk j) (ha : ps.1 ≤ Tn tk) (hq : psOK ps.2.2.2) : aM m 21 [] (stM ps f j) = some (some (.int (b2i (oprB tk ps.2.2.2.1 ps.1))), stM ps f j) := by
  obtain ⟨n, rfl⟩ := suc1 (m := m) (by omega)
  rw [eM_isOperator, zM_isOperator]
  refine mb_e rfl ?_
  have e1 := aCall0_b (L := A0of true []) (m_isName (m := n) (f := f) (by omega) ht hT ha)
  unfold oprB
  cases hn : nmB tk ps.1 with
  | false =>
    rw [hn] at e1
    unfold bAnd
    rw [e1]
    rfl
  | true =>
    rw [hn] at e1
    obtain ⟨hl, g0, g1⟩ := nm_val ht hn
    have hv := mAt1 (LV := A0of true []) (f := f) (ps := ps) ht hT hl mF13
    obtain ⟨x0, x1⟩ := fxA_ok hq (vAt tk ps.1)
    have e3 : bZ .ge (aAt 4 (aAt 1 (aF 13))) (A0of true []) (stM ps f j) = some (some (!decide (fxA ps.2.2.2.1 (vAt tk ps.1) = 0)), stM ps f j) := by
      unfold bZ aAt at *
      rw [hv, ab_ok, sM_R4, sM_o4, fxm_at hq.1 g0 g1, aok_ok, ab_ok, cmp_i, hold_ge, fx_ge x0 x1]
      rfl
    rw [bAnd_e e1 e3]
end MLF
