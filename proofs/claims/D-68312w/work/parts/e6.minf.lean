/-! M: operators are laid together -/
section MIN
variable {α β : Type} {W : Bool} {em : α → V} {em2 : β → V} {tk : TK} {f f1 f' fo : FM} {j j1 j' j0 : AS} {B B1 : Nat} {r : Option (Option V × AS)} {ps ps' : PS} {m n k k' : Nat} {LV : AL}
theorem m_checkOperator (hm : 2 ≤ m) {g : Nat × List V} {o8 : Nat} {b8 : List V} {fx : Int32} {ops : OPS} (h1 : ops.length < 9999) (h2 : o8 + b8.length + 3 * ops.length < 2 ^ 29) : aM m 64 [.int (nI (o8 + b8.length)), .int (fx - 1)] (stM ps (g, (o8, b8 ++ opm ops)) j) = if chk fx ops = true then some (none, ftM (stM ps (g, (o8, b8 ++ opm ops)) j) 4) else some (some (.int 0), stM ps (g, (o8, b8 ++ opm ops)) j) := by
  obtain ⟨n, rfl⟩ := suc1 (m := m) (by omega)
  obtain ⟨LV', rr⟩ := m_chk_l (n := n) (ps := ps) (j := j) (g := g) (o8 := o8) (b8 := b8) (fx := fx) (K := run [zRet0] nk) (B0 := nk) (C0 := nk) (by omega) 99999 ops [] (va_up (A0of true [.int (nI (o8 + b8.length)), .int (fx - 1)]) 3 (.int (nI (o8 + b8.length + 3 * ops.length) - 3))) (by omega) (by simp; omega) rfl rfl rfl
  have e3 : ∀ L : AL, aBin oSub (aSz 18) (aK 3) L (stM ps (g, (o8, b8 ++ opm ops)) j) = some (some (.int (nI (o8 + b8.length + 3 * ops.length) - 3)), stM ps (g, (o8, b8 ++ opm ops)) j) := by
    intro L
    have : o8 + (b8 ++ opm ops).length = o8 + b8.length + 3 * ops.length := by rw [List.length_append, opm_len]; omega
    simp only [d10, eq_self, decide_true, decide_false, ti_b, b2i_t, b2i_f, aK, aL, aF, aSz, aBin, aDiv, aB, aAt, aNd, aArgs, aCall, aIf, bCmp, bZ, bAnd, bOr, bNot, bTT, bIf, ab_ok, ab_no, ab_none, ab_ab, ab_ite, aok_ok, aok_none, og_ok, og_none, vbin_i, vb8_i, vput_i, vI_i, cmp_i, hold_eq, hold_ne, hold_lt, hold_ge, hold_gt, hold_le, b2i_0, ss_b, ss_ite, oAdd, oSub, oMul, Option.bind_some, A0of, va_up, List.length_nil, List.length_cons, List.getD_cons_zero, List.getD_cons_succ, List.getD_nil, if_true, if_false, Bool.not_not, Bool.not_true, Bool.not_false, Bool.false_eq_true, reduceIte, Nat.reduceSub, Nat.reduceAdd, Nat.reduceEqDiff, sM_f13, sM_f14, sM_f11, sM_f19, sM_f20, sM_f21, sM_R17, sM_R18, sM_R4, sM_R5, sM_o17, sM_o18, sM_o4, sM_o5, sM_nn, sM_fl, this]
  rw [List.append_nil] at rr
  rw [eM_checkOperator, zM_checkOperator, amth_run, if_pos (show [Term.int (nI (o8 + b8.length)), Term.int (fx - 1)].length = 2 from rfl), run_seq, run_set, e3, kS_ok, run_seq, run_rn, show LN = 99999 + 1 from rfl, rr]
  cases chk fx ops <;> rfl
def bf0 (fx : Int32) : OPS → Bool
  | [] => false
  | o :: _ => bfm o.2.2 fx
theorem m_bindsFirst (hm : 1 ≤ m) {g : Nat × List V} {o8 : Nat} {b8 : List V} {fx : Int32} {ops : OPS} (h2 : o8 + b8.length + 3 * ops.length < 2 ^ 29) : aM m 65 [.int (nI (o8 + b8.length)), .int (fx - 1)] (stM ps (g, (o8, b8 ++ opm ops)) j) = some (some (.int (b2i (bf0 fx ops))), stM ps (g, (o8, b8 ++ opm ops)) j) := by
  obtain ⟨n, rfl⟩ := suc1 (m := m) (by omega)
  have hl : o8 + (b8 ++ opm ops).length = o8 + b8.length + 3 * ops.length := by rw [List.length_append, opm_len]; omega
  have ec : bCmp .eq (aSz 18) (aL 1) (A0of true [.int (nI (o8 + b8.length)), .int (fx - 1)]) (stM ps (g, (o8, b8 ++ opm ops)) j) = some (some (decide (ops = [])), stM ps (g, (o8, b8 ++ opm ops)) j) := by
    unfold bCmp
    rw [aSz_e, ab_ok, aL_e, ab_ok, sM_R18, sM_o18, hl, show A0of true [Term.int (nI (o8 + b8.length)), Term.int (fx - 1)] 1 = .int (nI (o8 + b8.length)) from rfl, cmp_i, hold_eq]
    have : decide (nI (o8 + b8.length + 3 * ops.length) = nI (o8 + b8.length)) = decide (ops = []) := by
      rw [decide_eq_decide]
      constructor
      · intro h
        have := nI_inj (by omega) (by omega) h
        exact List.length_eq_zero_iff.mp (by omega)
      · intro h
        subst h
        rfl
    rw [this]
    rfl
  rw [eM_bindsFirst, zM_bindsFirst, amth_run, if_pos (show [Term.int (nI (o8 + b8.length)), Term.int (fx - 1)].length = 2 from rfl), run_seq, run_if, ec]
  cases ops with
  | nil => rfl
  | cons o ops =>
    rw [decide_eq_false (by simp), kI_f, run_skip, run_seq, run_set]
    simp only [List.length_cons] at h2 hl
    have er : b8 ++ opm (o :: ops) = b8 ++ opm ops ++ [.int o.1] ++ .int (o.2.2 - 1) :: [.int (nI o.2.1)] := by rw [opm_cons]; simp
    have eat : ∀ L : AL, aAt 18 (aBin oSub (aSz 18) (aK 2)) L (stM ps (g, (o8, b8 ++ opm (o :: ops))) j) = some (some (.int (o.2.2 - 1)), stM ps (g, (o8, b8 ++ opm (o :: ops))) j) := by
      intro L
      have e1 : oSub (nI (o8 + b8.length + 3 * (ops.length + 1))) 2 = nI (o8 + (b8 ++ opm ops ++ [Term.int o.1]).length) := by
        show nI _ - 2 = _
        rw [show (2 : Int32) = nI 2 from rfl, nI_sub (by omega)]
        congr 1
        simp only [List.length_append, List.length_singleton, opm_len]
        omega
      unfold aAt aBin
      rw [aSz_e, ab_ok, aK_e, ab_ok, sM_R18, sM_o18, hl, vbin_i, aok_ok, ab_ok, e1, sM_R18, sM_o18, er, aix_end (o := o8) (l := b8 ++ opm ops ++ [Term.int o.1]) rfl (by simp only [List.length_append, List.length_singleton, opm_len]; omega)]
      rfl
    rw [eat, kS_ok, run_ret]
    generalize hL : va_up (A0of true [Term.int (nI (o8 + b8.length)), Term.int (fx - 1)]) 3 (.int (o.2.2 - 1)) = L
    have a3 : ∀ A : AS, aL 3 L A = some (some (.int (o.2.2 - 1)), A) := fun A => by rw [← hL]; rfl
    have a2 : ∀ A : AS, aL 2 L A = some (some (.int (fx - 1)), A) := fun A => by rw [← hL]; rfl
    generalize stM ps (g, (o8, b8 ++ opm (o :: ops))) j = A
    have c1 : bCmp .gt (aDiv oDiv (aL 3) (aK 2)) (aDiv oDiv (aL 2) (aK 2)) L A = some (some (decide (prc fx < prc o.2.2)), A) := by
      unfold bCmp
      rw [prc_div (a3 A), ab_ok, prc_div (a2 A), ab_ok, cmp_i, hold_gt]
      rfl
    have c2 : bCmp .eq (aDiv oDiv (aL 3) (aK 2)) (aDiv oDiv (aL 2) (aK 2)) L A = some (some (decide (prc o.2.2 = prc fx)), A) := by
      unfold bCmp
      rw [prc_div (a3 A), ab_ok, prc_div (a2 A), ab_ok, cmp_i, hold_eq]
      rfl
    have c3 : bZ .eq (aDiv oRem (aL 2) (aK 2)) L A = some (some (decide (oRem (fx - 1) 2 = 0)), A) := by
      unfold bZ aDiv
      rw [a2, ab_ok, aK_e, ab_ok]
      show ab (aok (some (Term.int (oRem (fx - 1) 2))) A) _ = _
      rw [aok_ok, ab_ok, cmp_i, hold_eq]
      rfl
    rw [aIf01 (bOr_e c1 (bAnd_e c2 c3)), fin_b]
    rfl
theorem m_rdl {q : Bool} {nm fx : Int32} {o7 o8 : Nat} {b7 b8 : List V} {K B0 C0 : KT} (hn : 5 ≤ n) (hf : ps.2.2.1 < 2 ^ 30) (e4 : ∀ (L : AL) (f : FM) (j : AS), L 5 = .int nm → aAt 4 (aL 5) L (stM ps f j) = some (some (.int (fx - 1)), stM ps f j)) (N : Nat) : ∀ (ops : OPS) (l : ODS) (j : AS) (LV : AL), ops.length ≤ N → l.length = ops.length + 1 → (∀ o ∈ ops, o.1 ≤ 8191) → o7 + b7.length + 2 * l.length + 6 < ALM → o8 + b8.length + 3 * ops.length + 4 < ALM → j.nn + 7 * ops.length ≤ ALM → LV 1 = .int (b2i q) → LV 2 = .int (nI (o8 + b8.length)) → LV 5 = .int nm →
    ∃ c, c + 7 * (rdm q fx ops l).1.length ≤ 7 * ops.length ∧ rn (zWh (N + 1) (bZ .ne (aCall (aM n) 65 [(aL 2), (aAt 4 (aL 5))])) (zEx (aCall (aM n) 66 [(aL 1)])) zSkip LV (stM ps ((o7, b7 ++ ovm l), (o8, b8 ++ opm ops)) j)) K B0 C0 = K LV (stM ps ((o7, b7 ++ ovm (rdm q fx ops l).2), (o8, b8 ++ opm (rdm q fx ops l).1)) (mkN j c)) := by
  have hA : ALM = 30000 := rfl
  have ec : ∀ (ops : OPS) (l : ODS) (j : AS) (LV : AL), o8 + b8.length + 3 * ops.length + 4 < ALM → LV 2 = .int (nI (o8 + b8.length)) → LV 5 = .int nm → bZ .ne (aCall (aM n) 65 [(aL 2), (aAt 4 (aL 5))]) LV (stM ps ((o7, b7 ++ ovm l), (o8, b8 ++ opm ops)) j) = some (some (bf0 fx ops), stM ps ((o7, b7 ++ ovm l), (o8, b8 ++ opm ops)) j) := by
    intro ops l j LV h8 l2 l5
    refine bZn_e ?_
    rw [aCall_2, aL_e, ab_ok, l2, e4 LV _ _ l5, ab_ok, m_bindsFirst (by omega) (by omega)]
  induction N with
  | zero =>
    intro ops l j LV h1 h2 h3 h4 h5 h6 l1 l2 l5
    have : ops = [] := List.length_eq_zero_iff.mp (by omega)
    subst this
    refine ⟨0, by simp [rdm], ?_⟩
    rw [rn_wh, ec _ _ _ _ h5 l2 l5, ab_ok]
    rfl
  | succ N ih =>
    intro ops l j LV h1 h2 h3 h4 h5 h6 l1 l2 l5
    cases ops with
    | nil =>
      refine ⟨0, by simp [rdm], ?_⟩
      rw [rn_wh, ec _ _ _ _ h5 l2 l5, ab_ok]
      rfl
    | cons o ops =>
      rw [rn_wh, ec _ _ _ _ h5 l2 l5, ab_ok]
      rw [show bf0 fx (o :: ops) = bfm o.2.2 fx from rfl]
      unfold rdm
      cases hb : bfm o.2.2 fx with
      | false =>
        refine ⟨0, by simp, ?_⟩
        rw [if_neg (show ¬ false = true by decide), if_neg (show ¬ false = true by decide)]
        rfl
      | true =>
        simp only [List.length_cons] at h1 h2 h5 h6
        match l, h2 with
        | (two, x2) :: (one, x1) :: rr, h2 =>
          simp only [List.length_cons] at h2 h4
          obtain ⟨c1, k1, k2⟩ := m_join (m := n) (ps := ps) (j := j) (q := q) (o7 := o7) (o8 := o8) (b7 := b7) (b8 := b8) (two := two) (one := one) (x2 := x2) (x1 := x1) (rr := rr) (op := o) (ops := ops) hn (h3 o (by simp)) hf (by omega) (by omega) (by omega)
          obtain ⟨c2, k3, k4⟩ := ih ops (red1 q o ((two, x2) :: (one, x1) :: rr)) (mkN j c1) LV (by omega) (by simp [red1]; omega) (fun x hx => h3 x (by simp [hx])) (by simp [red1]; omega) (by omega) (by rw [mkN_nn]; omega) l1 l2 l5
          refine ⟨c1 + c2, by simp only [if_true, List.length_cons]; omega, ?_⟩
          rw [if_pos rfl, if_pos rfl, rn_ex, aCall_1, aL_e, ab_ok, l1, k2, ab_ok, rn_skip, k4, mkN_mkN]
        | [_], h2 => simp at h2
theorem m_rda {q : Bool} {o7 o8 : Nat} {b7 b8 : List V} {K B0 C0 : KT} (hn : 5 ≤ n) (hf : ps.2.2.1 < 2 ^ 30) (N : Nat) : ∀ (ops : OPS) (l : ODS) (j : AS) (LV : AL), ops.length ≤ N → l.length = ops.length + 1 → (∀ o ∈ ops, o.1 ≤ 8191) → o7 + b7.length + 2 * l.length + 6 < ALM → o8 + b8.length + 3 * ops.length + 4 < ALM → j.nn + 7 * ops.length ≤ ALM → LV 1 = .int (b2i q) → LV 2 = .int (nI (o8 + b8.length)) →
    ∃ c, c ≤ 7 * ops.length ∧ rn (zWh (N + 1) (bCmp .gt (aSz 18) (aL 2)) (zEx (aCall (aM n) 66 [(aL 1)])) zSkip LV (stM ps ((o7, b7 ++ ovm l), (o8, b8 ++ opm ops)) j)) K B0 C0 = K LV (stM ps ((o7, b7 ++ ovm (redA q ops l)), (o8, b8)) (mkN j c)) := by
  have hA : ALM = 30000 := rfl
  have ec : ∀ (ops : OPS) (l : ODS) (j : AS) (LV : AL), o8 + b8.length + 3 * ops.length + 4 < ALM → LV 2 = .int (nI (o8 + b8.length)) → bCmp .gt (aSz 18) (aL 2) LV (stM ps ((o7, b7 ++ ovm l), (o8, b8 ++ opm ops)) j) = some (some (!decide (ops = [])), stM ps ((o7, b7 ++ ovm l), (o8, b8 ++ opm ops)) j) := by
    intro ops l j LV h8 l2
    have hl : o8 + (b8 ++ opm ops).length = o8 + b8.length + 3 * ops.length := by rw [List.length_append, opm_len]; omega
    unfold bCmp
    rw [aSz_e, ab_ok, aL_e, ab_ok, sM_R18, sM_o18, hl, l2, cmp_i, hold_gt]
    cases ops with
    | nil =>
      have d : decide (nI (o8 + b8.length) < nI (o8 + b8.length + 3 * ([] : OPS).length)) = false := decide_eq_false (nI_nlt (by simp) (by omega))
      rw [d]
      rfl
    | cons o ops =>
      have d : decide (nI (o8 + b8.length) < nI (o8 + b8.length + 3 * (o :: ops).length)) = true := decide_eq_true (nI_lt (by simp) (by simp at h8 ⊢; omega))
      rw [d]
      rfl
  induction N with
  | zero =>
    intro ops l j LV h1 h2 h3 h4 h5 h6 l1 l2
    have : ops = [] := List.length_eq_zero_iff.mp (by omega)
    subst this
    refine ⟨0, by simp, ?_⟩
    rw [rn_wh, ec _ _ _ _ h5 l2, ab_ok]
    simp [redA, opm]
    rfl
  | succ N ih =>
    intro ops l j LV h1 h2 h3 h4 h5 h6 l1 l2
    cases ops with
    | nil =>
      refine ⟨0, by simp, ?_⟩
      rw [rn_wh, ec _ _ _ _ h5 l2, ab_ok]
      simp [redA, opm]
      rfl
    | cons o ops =>
      rw [rn_wh, ec _ _ _ _ h5 l2, ab_ok]
      simp only [List.length_cons] at h1 h2 h5 h6
      match l, h2 with
      | (two, x2) :: (one, x1) :: rr, h2 =>
        simp only [List.length_cons] at h2 h4
        obtain ⟨c1, k1, k2⟩ := m_join (m := n) (ps := ps) (j := j) (q := q) (o7 := o7) (o8 := o8) (b7 := b7) (b8 := b8) (two := two) (one := one) (x2 := x2) (x1 := x1) (rr := rr) (op := o) (ops := ops) hn (h3 o (by simp)) hf (by omega) (by omega) (by omega)
        obtain ⟨c2, k3, k4⟩ := ih ops (red1 q o ((two, x2) :: (one, x1) :: rr)) (mkN j c1) LV (by omega) (by simp [red1]; omega) (fun x hx => h3 x (by simp [hx])) (by simp [red1]; omega) (by omega) (by rw [mkN_nn]; omega) l1 l2
        refine ⟨c1 + c2, by simp only [List.length_cons]; omega, ?_⟩
        rw [decide_eq_false (by simp), if_pos (by decide), rn_ex, aCall_1, aL_e, ab_ok, l1, k2, ab_ok, rn_skip, k4, mkN_mkN]
        rfl
      | [_], h2 => simp at h2
end MIN
