/-! leaves of M, the others -/
section ML2
variable {tk : TK} {ps : PS} {f : FM} {j : AS} {m : Nat} {A : AS} {LV : AL}
theorem m_isC (hm : 2 ≤ m) (ht : tkOK tk) (hT : TKM tk j) (ha : ps.1 ≤ Tn tk) : aM m 26 [] (stM ps f j) = some (some (.int (b2i (cstB tk ps.1))), stM ps f j) := by
  obtain ⟨n, rfl⟩ := suc1 (m := m) (by omega)
  rw [eM_isConstant, zM_isConstant]
  refine mb_e rfl ?_
  have hk : aCall (aM n) 8 [] (A0of true []) (stM ps f j) = some (some (.int (kAt tk ps.1)), stM ps f j) := m_kind (by omega) ht hT ha
  unfold bCmp cstB
  rw [hk, ab_ok, aK_e, ab_ok, cmp_i, hold_gt]
  rfl
/-- a sign, asked for -/
theorem mS (n : Nat) (hn : 1 ≤ n) (ht : tkOK tk) (hT : TKM tk j) (ha : ps.1 ≤ Tn tk) (s : Int32) : bZ .ne (aCall (aM n) 6 [(aK s)]) LV (stM ps f j) = some (some (sg tk ps.1 s), stM ps f j) := aCall1_b (m_is hn ht hT ha s)
theorem mN (n : Nat) (hn : 2 ≤ n) (ht : tkOK tk) (hT : TKM tk j) (ha : ps.1 ≤ Tn tk) : bZ .ne (aCall (aM n) 20 []) LV (stM ps f j) = some (some (nmB tk ps.1), stM ps f j) := aCall0_b (m_isName hn ht hT ha)
theorem mO (n : Nat) (hn : 3 ≤ n) (ht : tkOK tk) (hT : TKM tk j) (ha : ps.1 ≤ Tn tk) (hq : psOK ps.2.2.2) : bZ .ne (aCall (aM n) 21 []) LV (stM ps f j) = some (some (oprB tk ps.2.2.2.1 ps.1), stM ps f j) := aCall0_b (m_isOperator hn ht hT ha hq)
theorem mK (n : Nat) (hn : 1 ≤ n) (ht : tkOK tk) (hT : TKM tk j) (ha : ps.1 ≤ Tn tk) (k : Int32) : bCmp .eq (aCall (aM n) 8 []) (aK k) LV (stM ps f j) = some (some (decide (kAt tk ps.1 = k)), stM ps f j) := bEq_e (m_kind hn ht hT ha)
theorem mKn (n : Nat) (hn : 1 ≤ n) (ht : tkOK tk) (hT : TKM tk j) (ha : ps.1 ≤ Tn tk) (k : Int32) : bCmp .ne (aCall (aM n) 8 []) (aK k) LV (stM ps f j) = some (some (!decide (kAt tk ps.1 = k)), stM ps f j) := bNe_e (m_kind hn ht hT ha)
def idB (tk : TK) (ps : PS) : Bool := (nmB tk ps.1 && !oprB tk ps.2.2.2.1 ps.1) || decide (kAt tk ps.1 = 5) || sg tk ps.1 22
theorem m_isId (hm : 4 ≤ m) (ht : tkOK tk) (hT : TKM tk j) (ha : ps.1 ≤ Tn tk) (hq : psOK ps.2.2.2) : aM m 24 [] (stM ps f j) = some (some (.int (b2i (idB tk ps))), stM ps f j) := by
  obtain ⟨n, rfl⟩ := suc1 (m := m) (by omega)
  rw [eM_isId, zM_isId]
  exact mb_e rfl (bOr_e (bOr_e (bAnd_e (mN n (by omega) ht hT ha) (bNot_e (mO n (by omega) ht hT ha hq))) (mK n (by omega) ht hT ha 5)) (mS n (by omega) ht hT ha 22))
theorem m_isBare (hm : 4 ≤ m) (ht : tkOK tk) (hT : TKM tk j) (ha : ps.1 ≤ Tn tk) (hq : psOK ps.2.2.2) : aM m 19 [] (stM ps f j) = some (some (.int (b2i (sg tk ps.1 22 || (nmB tk ps.1 && !oprB tk ps.2.2.2.1 ps.1)))), stM ps f j) := by
  obtain ⟨n, rfl⟩ := suc1 (m := m) (by omega)
  rw [eM_isBare, zM_isBare]
  exact mb_e rfl (bOr_e (mS n (by omega) ht hT ha 22) (bAnd_e (mN n (by omega) ht hT ha) (bNot_e (mO n (by omega) ht hT ha hq))))
theorem or8 : ∀ a b c d e f g h : Bool, (b || (a || h || d) || e || f || g || c) = (a || h || b || d || e || f || g || c) := by decide
theorem m_isAp (hm : 5 ≤ m) (ht : tkOK tk) (hT : TKM tk j) (ha : ps.1 ≤ Tn tk) (hq : psOK ps.2.2.2) : aM m 52 [] (stM ps f j) = some (some (.int (b2i (begP tk ps))), stM ps f j) := by
  obtain ⟨n, rfl⟩ := suc1 (m := m) (by omega)
  rw [eM_isAtomicPattern, zM_isAtomicPattern]
  have e : begP tk ps = (cstB tk ps.1 || idB tk ps || sg tk ps.1 43 || sg tk ps.1 37 || sg tk ps.1 33 || sg tk ps.1 35) := by
    unfold begP idB
    exact (or8 (nmB tk ps.1 && !oprB tk ps.2.2.2.1 ps.1) (cstB tk ps.1) (sg tk ps.1 35) (sg tk ps.1 22) (sg tk ps.1 43) (sg tk ps.1 37) (sg tk ps.1 33) (decide (kAt tk ps.1 = 5))).symm
  rw [e]
  exact mb_e rfl (bOr_e (bOr_e (bOr_e (bOr_e (bOr_e (aCall0_b (m_isC (by omega) ht hT ha)) (aCall0_b (m_isId (by omega) ht hT ha hq))) (mS n (by omega) ht hT ha 43)) (mS n (by omega) ht hT ha 37)) (mS n (by omega) ht hT ha 33)) (mS n (by omega) ht hT ha 35))
theorem or9 : ∀ a b c d e f g h i : Bool, (b || (a || h || d) || e || f || g || c || i) = (a || h || b || d || e || f || g || c || i) := by decide
theorem m_isAt (hm : 5 ≤ m) (ht : tkOK tk) (hT : TKM tk j) (ha : ps.1 ≤ Tn tk) (hq : psOK ps.2.2.2) : aM m 63 [] (stM ps f j) = some (some (.int (b2i (begA tk ps))), stM ps f j) := by
  obtain ⟨n, rfl⟩ := suc1 (m := m) (by omega)
  rw [eM_isAtomic, zM_isAtomic]
  have e : begA tk ps = (cstB tk ps.1 || idB tk ps || sg tk ps.1 37 || sg tk ps.1 48 || sg tk ps.1 33 || sg tk ps.1 35 || sg tk ps.1 18) := by
    unfold begA idB
    exact (or9 (nmB tk ps.1 && !oprB tk ps.2.2.2.1 ps.1) (cstB tk ps.1) (sg tk ps.1 35) (sg tk ps.1 22) (sg tk ps.1 37) (sg tk ps.1 48) (sg tk ps.1 33) (decide (kAt tk ps.1 = 5)) (sg tk ps.1 18)).symm
  rw [e]
  exact mb_e rfl (bOr_e (bOr_e (bOr_e (bOr_e (bOr_e (bOr_e (aCall0_b (m_isC (by omega) ht hT ha)) (aCall0_b (m_isId (by omega) ht hT ha hq))) (mS n (by omega) ht hT ha 37)) (mS n (by omega) ht hT ha 48)) (mS n (by omega) ht hT ha 33)) (mS n (by omega) ht hT ha 35)) (mS n (by omega) ht hT ha 18))
theorem m_isForm (hm : 2 ≤ m) (ht : tkOK tk) (hT : TKM tk j) (ha : ps.1 ≤ Tn tk) : aM m 13 [] (stM ps f j) = some (some (.int (b2i (fmB tk ps.1))), stM ps f j) := by
  obtain ⟨n, rfl⟩ := suc1 (m := m) (by omega)
  rw [eM_isForm, zM_isForm]
  exact mb_e rfl (bOr_e (bOr_e (bOr_e (bOr_e (mS n (by omega) ht hT ha 25) (mS n (by omega) ht hT ha 14)) (mS n (by omega) ht hT ha 32)) (mS n (by omega) ht hT ha 5)) (mS n (by omega) ht hT ha 11))
theorem m_isLabel (hm : 3 ≤ m) (ht : tkOK tk) (hT : TKM tk j) (ha : ps.1 ≤ Tn tk) : aM m 31 [] (stM ps f j) = some (some (.int (b2i (labB tk ps.1))), stM ps f j) := by
  obtain ⟨n, rfl⟩ := suc1 (m := m) (by omega)
  rw [eM_isLabel, zM_isLabel]
  refine mb_e rfl ?_
  have e : labB tk ps.1 = (nmB tk ps.1 || (decide (kAt tk ps.1 = 6) && decide (0 < nAt tk ps.1))) := Bool.or_comm _ _
  rw [e]
  refine bOr_e (mN n (by omega) ht hT ha) ?_
  have e6 := mK (LV := A0of true []) (ps := ps) (f := f) n (by omega) ht hT ha 6
  by_cases h : kAt tk ps.1 = 6
  · have hlt : ps.1 < Tn tk := k_lt (by rw [h]; decide)
    refine bAnd_e e6 ?_
    unfold bZ
    rw [mAt2 ht hT hlt mF13, ab_ok, cmp_i, hold_gt]
    rfl
  · rw [decide_eq_false h] at e6 ⊢
    unfold bAnd
    rw [e6]
    rfl
theorem m_isTyc (hm : 2 ≤ m) (ht : tkOK tk) (hT : TKM tk j) (ha : ps.1 ≤ Tn tk) : aM m 45 [] (stM ps f j) = some (some (.int (b2i (tycB tk ps.1))), stM ps f j) := by
  obtain ⟨n, rfl⟩ := suc1 (m := m) (by omega)
  rw [eM_isConstructor, zM_isConstructor]
  refine mb_e rfl ?_
  have e : tycB tk ps.1 = (decide (kAt tk ps.1 = 2) || (decide (kAt tk ps.1 = 3) && !decide (vAt tk ps.1 = 7)) || decide (kAt tk ps.1 = 5)) := by
    unfold tycB
    cases decide (kAt tk ps.1 = 5) <;> cases decide (kAt tk ps.1 = 2) <;> cases decide (kAt tk ps.1 = 3) <;> cases decide (vAt tk ps.1 = 7) <;> rfl
  rw [e]
  refine bOr_e (bOr_e (mK n (by omega) ht hT ha 2) ?_) (mK n (by omega) ht hT ha 5)
  have e6 := mK (LV := A0of true []) (ps := ps) (f := f) n (by omega) ht hT ha 3
  by_cases h : kAt tk ps.1 = 3
  · have hlt : ps.1 < Tn tk := k_lt (by rw [h]; decide)
    exact bAnd_e e6 (bNe_e (mAt1 ht hT hlt mF13))
  · rw [decide_eq_false h] at e6 ⊢
    unfold bAnd
    rw [e6]
    rfl
theorem m_isDec (hm : 2 ≤ m) (ht : tkOK tk) (hT : TKM tk j) (ha : ps.1 ≤ Tn tk) : aM m 7 [] (stM ps f j) = some (some (.int (b2i (begD tk ps.1))), stM ps f j) := by
  obtain ⟨n, rfl⟩ := suc1 (m := m) (by omega)
  rw [eM_isDeclaration, zM_isDeclaration, amth_run, List.length_nil, if_pos rfl, run_seq, run_if, mKn n (by omega) ht hT ha 1]
  by_cases h : kAt tk ps.1 = 1
  · have hlt : ps.1 < Tn tk := k_lt (by rw [h]; decide)
    rw [decide_eq_true h, Bool.not_true, kI_f, run_skip, run_rn, rn_sw, mAt1 ht hT hlt mF13, ab_ok, vI_i]
    dsimp only
    have key : ∀ k : Fin 29, (([0, 1, 1, 1, 1, 0, 1, 1, 1, 0, 1, 0, 1, 1, 1, 0, 0, 1, 0, 0, 1, 1, 0, 1, 1, 1, 1, 0, 0] : List Nat).getD k.val 1 = 0) = (k.val = 28 ∨ k.val = 11 ∨ k.val = 27 ∨ k.val = 5 ∨ k.val = 0 ∨ k.val = 9 ∨ k.val = 18 ∨ k.val = 22 ∨ k.val = 15 ∨ k.val = 16 ∨ k.val = 19) := by decide
    have key2 : ∀ k : Fin 29, ([0, 1, 1, 1, 1, 0, 1, 1, 1, 0, 1, 0, 1, 1, 1, 0, 0, 1, 0, 0, 1, 1, 0, 1, 1, 1, 1, 0, 0] : List Nat).getD k.val 1 = 0 ∨ ([0, 1, 1, 1, 1, 0, 1, 1, 1, 0, 1, 0, 1, 1, 1, 0, 0, 1, 0, 0, 1, 1, 0, 1, 1, 1, 1, 0, 0] : List Nat).getD k.val 1 = 1 := by decide
    have hb : begD tk ps.1 = true ↔ (vAt tk ps.1 = 29 ∨ vAt tk ps.1 = 12 ∨ vAt tk ps.1 = 28 ∨ vAt tk ps.1 = 6 ∨ vAt tk ps.1 = 1 ∨ vAt tk ps.1 = 10 ∨ vAt tk ps.1 = 19 ∨ vAt tk ps.1 = 23 ∨ vAt tk ps.1 = 16 ∨ vAt tk ps.1 = 17 ∨ vAt tk ps.1 = 20) := by
      simp [begD, sg, h, or_assoc]
    have ti : ∀ (i : Int32) (a : Int), i.toInt = a → (vAt tk ps.1 = i ↔ (vAt tk ps.1).toInt = a) := by
      intro i a e
      rw [← e, Int32.toInt_inj]
    rw [ti 29 29 rfl, ti 12 12 rfl, ti 28 28 rfl, ti 6 6 rfl, ti 1 1 rfl, ti 10 10 rfl, ti 19 19 rfl, ti 23 23 rfl, ti 16 16 rfl, ti 17 17 rfl, ti 20 20 rfl] at hb
    unfold selT
    by_cases hr : (vAt tk ps.1).toInt < 1 ∨ 29 < (vAt tk ps.1).toInt
    · rw [if_pos hr]
      have : begD tk ps.1 = false := by
        cases hh : begD tk ps.1 with
        | false => rfl
        | true => have := hb.mp hh; omega
      rw [this]
      rfl
    · rw [if_neg hr]
      have k1 := key ⟨((vAt tk ps.1).toInt - 1).toNat, by omega⟩
      have k2 := key2 ⟨((vAt tk ps.1).toInt - 1).toNat, by omega⟩
      dsimp only at k1 k2
      rcases k2 with k2 | k2
      · rw [k2]
        have h1 := k1.mp k2
        have : begD tk ps.1 = true := hb.mpr (by omega)
        rw [this]
        rfl
      · rw [k2]
        have h2 : begD tk ps.1 = false := by
          cases hh : begD tk ps.1 with
          | false => rfl
          | true =>
            have h3 := hb.mp hh
            have h4 := k1.mpr (by omega)
            rw [k2] at h4
            cases h4
        rw [h2]
        rfl
  · rw [decide_eq_false h, Bool.not_false, kI_t, run_ret, aK_e]
    have : begD tk ps.1 = false := by
      simp [begD, sg, h]
    rw [this]
    rfl
end ML2
