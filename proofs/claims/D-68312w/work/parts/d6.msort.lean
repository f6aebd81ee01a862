/-! M: fields are sorted -/
section MSO
variable {tk : TK} {ps : PS} {f : FM} {j : AS} {m n : Nat} {A : AS} {LV : AL}
theorem m_rank (hm : 1 ≤ m) (l : Int32) : aM m 41 [.int l] A = some (some (.int (rk l)), A) := by
  obtain ⟨n, rfl⟩ := suc1 hm
  have e0 : A0of false [Term.int l] 0 = .int l := rfl
  rw [eM_rank, zM_rank, amth_run, if_pos (show [Term.int l].length = 1 from rfl), fin_ok, run_ret]
  unfold rk aIf bZ aBin
  rw [aL_e, ab_ok, e0, cmp_i, hold_gt, aok_ok, ab_ok]
  by_cases h : 0 < l
  · rw [if_pos h, decide_eq_true h, if_pos rfl]
    rfl
  · rw [if_neg h, decide_eq_false h, if_neg (by decide)]
    rfl
theorem set_mid {α : Type} (l r : List α) (x y : α) {i : Nat} (hi : i = l.length) : (l ++ x :: r).set i y = l ++ y :: r := by
  subst hi
  rw [List.set_append_right _ _ (Nat.le_refl _), Nat.sub_self]
  rfl
theorem ms17 {o : Nat} {l r : List V} {x y : V} {g : Nat × List V} {i : Nat} (hi : i = o + l.length) (hb : i < 2 ^ 31) : vset (stM ps ((o, l ++ x :: r), g) j) 17 (.int (nI i)) y = some (stM ps ((o, l ++ y :: r), g) j) := by
  rw [vset_nI hb (by simp only [sM_f13, sM_f14, sM_f11, sM_f19, sM_f20, sM_f21, sM_R17, sM_R18, sM_R4, sM_R5, sM_o17, sM_o18, sM_o4, sM_o5, sM_nn, sM_fl]; omega) (by simp only [sM_f13, sM_f14, sM_f11, sM_f19, sM_f20, sM_f21, sM_R17, sM_R18, sM_R4, sM_R5, sM_o17, sM_o18, sM_o4, sM_o5, sM_nn, sM_fl]; simp; omega)]
  simp only [sM_f13, sM_f14, sM_f11, sM_f19, sM_f20, sM_f21, sM_R17, sM_R18, sM_R4, sM_R5, sM_o17, sM_o18, sM_o4, sM_o5, sM_nn, sM_fl, sM_p13, sM_p14, sM_p11, sM_p17, sM_p18, sM_p19, sM_p20, sM_p21, nI_1, nI_pred]
  rw [set_mid l r x y (by omega)]
theorem m_ins_loop (hm : 1 ≤ m) {o : Nat} {base rest : List V} {q : Int32 × TR} {g : Nat × List V} (hq : FldR [q]) (N : Nat) : ∀ (left right : List (Int32 × TR)) (h : V) (LV : AL), left.length ≤ N → o + base.length + left.length + right.length + rest.length + 1 < 2 ^ 30 → FldR left → right.all (fun x => isBef q.1 x.1) = true →
    LV 1 = .int (nI (o + base.length)) → LV 3 = tv q.2 → LV 4 = .int (nI (o + base.length + left.length)) →
    ∃ (LV' : AL) (left' right' : List (Int32 × TR)) (h' : V), left' ++ q :: right' = insF q.1 q.2 (left ++ right) ∧ (∀ k, k ≠ 4 → LV' k = LV k) ∧ LV' 4 = .int (nI (o + base.length + left'.length)) ∧ left'.length + right'.length = left.length + right.length ∧ ∀ (K B C : KT), rn (zWh (N + 1) (bAnd (bCmp .gt (aL 4) (aL 1)) (bCmp .gt (aCall (aM m) 41 [(aNd cvM 1 (aAt 17 (aBin oSub (aL 4) (aK 1))))]) (aCall (aM m) 41 [(aNd cvM 1 (aL 3))]))) (zSeq (zAt 17 (aL 4) (aAt 17 (aBin oSub (aL 4) (aK 1)))) (zInc 4 (-1))) zSkip LV (stM ps ((o, base ++ fvs left ++ h :: (fvs right ++ rest)), g) j)) K B C
      = K LV' (stM ps ((o, base ++ fvs left' ++ h' :: (fvs right' ++ rest)), g) j) := by
  have hq1 := hq.1 q (List.mem_singleton.mpr rfl)
  have hqr := hq.2 q (List.mem_singleton.mpr rfl)
  have a2 : ndF cvM 1 (tv q.2) = some (.int q.1) := nd1f hq1 _
  induction N with
  | zero =>
    intro left right h LV h1 h2 h3 h4 h5 h6 h7
    have : left = [] := List.length_eq_zero_iff.mp (by omega)
    subst this
    refine ⟨LV, [], right, h, (insF_split [] right h4 (Or.inl rfl)).symm, fun _ _ => rfl, h7, rfl, fun K B C => ?_⟩
    rw [rn_wh]
    have e : decide (nI (o + base.length) < nI (o + base.length)) = false := decide_eq_false (nI_nlt (Nat.le_refl _) (by omega))
    simp only [List.length_nil, Nat.add_zero] at h7
    simp only [d10, eq_self, decide_true, decide_false, ti_b, b2i_t, b2i_f, aK, aL, aF, aSz, aBin, aDiv, aB, aAt, aNd, aArgs, aCall, aIf, bCmp, bZ, bAnd, bOr, bNot, bTT, bIf, ab_ok, ab_no, ab_none, ab_ab, ab_ite, aok_ok, aok_none, og_ok, og_none, vbin_i, vb8_i, vput_i, vI_i, cmp_i, hold_eq, hold_ne, hold_lt, hold_ge, hold_gt, hold_le, b2i_0, ss_b, ss_ite, oAdd, oSub, oMul, Option.bind_some, A0of, va_up, List.length_nil, List.length_cons, List.getD_cons_zero, List.getD_cons_succ, List.getD_nil, if_true, if_false, Bool.not_not, Bool.not_true, Bool.not_false, Bool.false_eq_true, reduceIte, Nat.reduceSub, Nat.reduceAdd, Nat.reduceEqDiff, sM_f13, sM_f14, sM_f11, sM_f19, sM_f20, sM_f21, sM_R17, sM_R18, sM_R4, sM_R5, sM_o17, sM_o18, sM_o4, sM_o5, sM_nn, sM_fl, h5, h7, e]
  | succ N ih =>
    intro left right h LV h1 h2 h3 h4 h5 h6 h7
    rcases cons_split left with rfl | ⟨i0, x, rfl⟩
    · refine ⟨LV, [], right, h, (insF_split [] right h4 (Or.inl rfl)).symm, fun _ _ => rfl, h7, rfl, fun K B C => ?_⟩
      rw [rn_wh]
      have e : decide (nI (o + base.length) < nI (o + base.length)) = false := decide_eq_false (nI_nlt (Nat.le_refl _) (by omega))
      simp only [List.length_nil, Nat.add_zero] at h7
      simp only [d10, eq_self, decide_true, decide_false, ti_b, b2i_t, b2i_f, aK, aL, aF, aSz, aBin, aDiv, aB, aAt, aNd, aArgs, aCall, aIf, bCmp, bZ, bAnd, bOr, bNot, bTT, bIf, ab_ok, ab_no, ab_none, ab_ab, ab_ite, aok_ok, aok_none, og_ok, og_none, vbin_i, vb8_i, vput_i, vI_i, cmp_i, hold_eq, hold_ne, hold_lt, hold_ge, hold_gt, hold_le, b2i_0, ss_b, ss_ite, oAdd, oSub, oMul, Option.bind_some, A0of, va_up, List.length_nil, List.length_cons, List.getD_cons_zero, List.getD_cons_succ, List.getD_nil, if_true, if_false, Bool.not_not, Bool.not_true, Bool.not_false, Bool.false_eq_true, reduceIte, Nat.reduceSub, Nat.reduceAdd, Nat.reduceEqDiff, sM_f13, sM_f14, sM_f11, sM_f19, sM_f20, sM_f21, sM_R17, sM_R18, sM_R4, sM_R5, sM_o17, sM_o18, sM_o4, sM_o5, sM_nn, sM_fl, h5, h7, e]
    · simp only [List.length_append, List.length_cons, List.length_nil, Nat.zero_add] at h1 h2 h7
      have hx := h3.1 x (by simp)
      have hxr := h3.2 x (by simp)
      have e1 : decide (nI (o + base.length) < nI (o + base.length + (i0.length + 1))) = true := decide_eq_true (nI_lt (by omega) (by omega))
      have e2 : nI (o + base.length + (i0.length + 1)) - 1 = nI (o + base.length + i0.length) := nI_pred _
      have er : base ++ fvs (i0 ++ [x]) ++ h :: (fvs right ++ rest) = base ++ fvs i0 ++ tv x.2 :: (h :: (fvs right ++ rest)) := by simp [fvs]
      have a1 : aix o (base ++ fvs (i0 ++ [x]) ++ h :: (fvs right ++ rest)) (.int (nI (o + base.length + i0.length))) = some (tv x.2) := by
        rw [er]
        exact aix_end (l := base ++ fvs i0) (congrArg nI (by simp [fvs]; omega)) (by simp [fvs]; omega)
      have a3 : ndF cvM 1 (tv x.2) = some (.int x.1) := nd1f hx _
      have er1 := fun A => m_rank (A := A) (m := m) hm x.1
      have er2 := fun A => m_rank (A := A) (m := m) hm q.1
      have eb : decide (rk q.1 < rk x.1) = isBef q.1 x.1 := (isBef_rk hqr hxr).symm
      cases hb : isBef q.1 x.1 with
      | false =>
        rw [hb] at eb
        refine ⟨LV, i0 ++ [x], right, h, (insF_split (i0 ++ [x]) right h4 (Or.inr ⟨i0, x, rfl, hb⟩)).symm, fun _ _ => rfl, by rw [h7]; simp, by simp, fun K B C => ?_⟩
        rw [rn_wh]
        simp only [d10, eq_self, decide_true, decide_false, ti_b, b2i_t, b2i_f, aK, aL, aF, aSz, aBin, aDiv, aB, aAt, aNd, aArgs, aCall, aIf, bCmp, bZ, bAnd, bOr, bNot, bTT, bIf, ab_ok, ab_no, ab_none, ab_ab, ab_ite, aok_ok, aok_none, og_ok, og_none, vbin_i, vb8_i, vput_i, vI_i, cmp_i, hold_eq, hold_ne, hold_lt, hold_ge, hold_gt, hold_le, b2i_0, ss_b, ss_ite, oAdd, oSub, oMul, Option.bind_some, A0of, va_up, List.length_nil, List.length_cons, List.getD_cons_zero, List.getD_cons_succ, List.getD_nil, if_true, if_false, Bool.not_not, Bool.not_true, Bool.not_false, Bool.false_eq_true, reduceIte, Nat.reduceSub, Nat.reduceAdd, Nat.reduceEqDiff, sM_f13, sM_f14, sM_f11, sM_f19, sM_f20, sM_f21, sM_R17, sM_R18, sM_R4, sM_R5, sM_o17, sM_o18, sM_o4, sM_o5, sM_nn, sM_fl, h5, h6, h7, e1, e2, a1, a2, a3, er1, er2, eb]
      | true =>
        rw [hb] at eb
        have es : vset (stM ps ((o, base ++ fvs (i0 ++ [x]) ++ h :: (fvs right ++ rest)), g) j) 17 (.int (nI (o + base.length + (i0.length + 1)))) (tv x.2) = some (stM ps ((o, base ++ fvs i0 ++ tv x.2 :: (fvs (x :: right) ++ rest)), g) j) := by
          rw [ms17 (by simp [fvs]; omega) (by omega)]
          simp [fvs]
        obtain ⟨LV', l', r', h', g1, g2, g3, g4, g5⟩ := ih i0 (x :: right) (tv x.2) (va_up LV 4 (.int (nI (o + base.length + i0.length)))) (by omega) (by simp; omega) ⟨fun y hy => h3.1 y (by simp [hy]), fun y hy => h3.2 y (by simp [hy])⟩ (by simp only [List.all_cons, hb, Bool.true_and]; exact h4) h5 h6 rfl
        refine ⟨LV', l', r', h', by rw [g1]; simp, fun k hk => (g2 k hk).trans (va_up_ne _ _ hk), g3, by simp at g4 ⊢; omega, fun K B C => ?_⟩
        have em : nI (o + base.length + (i0.length + 1)) + -1 = nI (o + base.length + i0.length) := by rw [← e2]; exact (Int32.sub_eq_add_neg _ _).symm
        rw [rn_wh]
        simp only [amth_eq, rn_seq, rn_if, rn_set, rn_inc, rn_ex, rn_ret, rn_ret0, rn_skip, rn_putF, rn_opF, rn_opU, rn_putS, rn_opS, rn_at, rn_atB, rn_add, rn_swap, rn_sw, rn_brk, rn_cnt, fin_ok, fin_ab, fin_ite, fin_og, fin_b, fin_0, fin_1, fin_v, fin_no, fin_none, d10, eq_self, decide_true, decide_false, ti_b, b2i_t, b2i_f, aK, aL, aF, aSz, aBin, aDiv, aB, aAt, aNd, aArgs, aCall, aIf, bCmp, bZ, bAnd, bOr, bNot, bTT, bIf, ab_ok, ab_no, ab_none, ab_ab, ab_ite, aok_ok, aok_none, og_ok, og_none, vbin_i, vb8_i, vput_i, vI_i, cmp_i, hold_eq, hold_ne, hold_lt, hold_ge, hold_gt, hold_le, b2i_0, ss_b, ss_ite, oAdd, oSub, oMul, Option.bind_some, A0of, va_up, List.length_nil, List.length_cons, List.getD_cons_zero, List.getD_cons_succ, List.getD_nil, if_true, if_false, Bool.not_not, Bool.not_true, Bool.not_false, Bool.false_eq_true, reduceIte, Nat.reduceSub, Nat.reduceAdd, Nat.reduceEqDiff, sM_f13, sM_f14, sM_f11, sM_f19, sM_f20, sM_f21, sM_R17, sM_R18, sM_R4, sM_R5, sM_o17, sM_o18, sM_o4, sM_o5, sM_nn, sM_fl, h5, h6, h7, e1, e2, a1, a2, a3, er1, er2, eb, es, em]
        exact g5 K B C
theorem m_sort_loop (hm : 1 ≤ m) {o : Nat} {base : List V} {g : Nat × List V} {K B C : KT} (N : Nat) : ∀ (todo : List (Int32 × TR)) (acc : List (Int32 × TR)) (LV : AL), todo.length ≤ N → o + base.length + acc.length + todo.length + 2 < 2 ^ 30 → acc.length + todo.length < 99999 → FldR acc → FldR todo → LV 1 = .int (nI (o + base.length)) → LV 2 = .int (nI (o + base.length + acc.length)) →
    ∃ LV' : AL, rn (zWh (N + 1) (bCmp .lt (aL 2) (aSz 17)) (zSeq (zSet 3 (aAt 17 (aL 2))) (zSeq (zSet 4 (aL 2)) (zSeq (zWh LN (bAnd (bCmp .gt (aL 4) (aL 1)) (bCmp .gt (aCall (aM m) 41 [(aNd cvM 1 (aAt 17 (aBin oSub (aL 4) (aK 1))))]) (aCall (aM m) 41 [(aNd cvM 1 (aL 3))]))) (zSeq (zAt 17 (aL 4) (aAt 17 (aBin oSub (aL 4) (aK 1)))) (zInc 4 (-1))) zSkip) (zAt 17 (aL 4) (aL 3))))) (zInc 2 1) LV (stM ps ((o, base ++ fvs acc ++ fvs todo), g) j)) K B C = K LV' (stM ps ((o, base ++ fvs (todo.foldl (fun acc q => insF q.1 q.2 acc) acc)), g) j) := by
  have stop : ∀ (N : Nat) (acc : List (Int32 × TR)) (LV : AL), o + base.length + acc.length + 2 < 2 ^ 30 → LV 2 = .int (nI (o + base.length + acc.length)) → rn (zWh (N + 1) (bCmp .lt (aL 2) (aSz 17)) (zSeq (zSet 3 (aAt 17 (aL 2))) (zSeq (zSet 4 (aL 2)) (zSeq (zWh LN (bAnd (bCmp .gt (aL 4) (aL 1)) (bCmp .gt (aCall (aM m) 41 [(aNd cvM 1 (aAt 17 (aBin oSub (aL 4) (aK 1))))]) (aCall (aM m) 41 [(aNd cvM 1 (aL 3))]))) (zSeq (zAt 17 (aL 4) (aAt 17 (aBin oSub (aL 4) (aK 1)))) (zInc 4 (-1))) zSkip) (zAt 17 (aL 4) (aL 3))))) (zInc 2 1) LV (stM ps ((o, base ++ fvs acc ++ fvs []), g) j)) K B C = K LV (stM ps ((o, base ++ fvs acc), g) j) := by
    intro N acc LV h2 h5
    have e : decide (nI (o + base.length + acc.length) < nI (o + (base ++ fvs acc).length)) = false := decide_eq_false (nI_nlt (by simp [fvs]; omega) (by omega))
    have e0 : base ++ fvs acc ++ fvs [] = base ++ fvs acc := by simp [fvs]
    rw [e0, rn_wh]
    simp only [d10, eq_self, decide_true, decide_false, ti_b, b2i_t, b2i_f, aK, aL, aF, aSz, aBin, aDiv, aB, aAt, aNd, aArgs, aCall, aIf, bCmp, bZ, bAnd, bOr, bNot, bTT, bIf, ab_ok, ab_no, ab_none, ab_ab, ab_ite, aok_ok, aok_none, og_ok, og_none, vbin_i, vb8_i, vput_i, vI_i, cmp_i, hold_eq, hold_ne, hold_lt, hold_ge, hold_gt, hold_le, b2i_0, ss_b, ss_ite, oAdd, oSub, oMul, Option.bind_some, A0of, va_up, List.length_nil, List.length_cons, List.getD_cons_zero, List.getD_cons_succ, List.getD_nil, if_true, if_false, Bool.not_not, Bool.not_true, Bool.not_false, Bool.false_eq_true, reduceIte, Nat.reduceSub, Nat.reduceAdd, Nat.reduceEqDiff, sM_f13, sM_f14, sM_f11, sM_f19, sM_f20, sM_f21, sM_R17, sM_R18, sM_R4, sM_R5, sM_o17, sM_o18, sM_o4, sM_o5, sM_nn, sM_fl, h5, e]
  induction N with
  | zero =>
    intro todo acc LV h1 h2 h3 h4 h5 h6 h7
    have : todo = [] := List.length_eq_zero_iff.mp (by omega)
    subst this
    exact ⟨LV, stop 0 acc LV (by simpa using h2) h7⟩
  | succ N ih =>
    intro todo acc LV h1 h2 h3 h4 h5 h6 h7
    cases todo with
    | nil => exact ⟨LV, stop (N + 1) acc LV (by simpa using h2) h7⟩
    | cons q todo =>
      simp only [List.length_cons] at h1 h2 h3
      have e : decide (nI (o + base.length + acc.length) < nI (o + (base ++ fvs acc ++ fvs (q :: todo)).length)) = true := decide_eq_true (nI_lt (by simp [fvs]; omega) (by simp [fvs]; omega))
      have er : base ++ fvs acc ++ fvs (q :: todo) = base ++ fvs acc ++ tv q.2 :: (fvs [] ++ fvs todo) := by simp [fvs]
      have a1 : aix o (base ++ fvs acc ++ fvs (q :: todo)) (.int (nI (o + base.length + acc.length))) = some (tv q.2) := aix_end (l := base ++ fvs acc) (r := fvs todo) (congrArg nI (by simp [fvs]; omega)) (by simp [fvs]; omega)
      have hqR : FldR [q] := ⟨fun x hx => h5.1 x (by simp at hx; simp [hx]), fun x hx => h5.2 x (by simp at hx; simp [hx])⟩
      obtain ⟨L1, l', r', h', g1, g2, g3, g4, g5⟩ := m_ins_loop (ps := ps) (j := j) (m := m) hm (o := o) (base := base) (rest := fvs todo) (q := q) (g := g) hqR 99999 acc [] (tv q.2) (va_up (va_up LV 3 (tv q.2)) 4 (.int (nI (o + base.length + acc.length)))) (by omega) (by simp [fvs]; omega) h4 rfl h6 rfl rfl
      rw [List.append_nil] at g1
      simp only [List.length_nil, Nat.add_zero] at g4
      have k1 : L1 1 = .int (nI (o + base.length)) := (g2 1 (by decide)).trans h6
      have k2 : L1 2 = .int (nI (o + base.length + acc.length)) := (g2 2 (by decide)).trans h7
      have k3 : L1 3 = tv q.2 := g2 3 (by decide)
      have hli := (insF_ok (l := q.1) (t := q.2) (hqR.1 q (by simp)) h4.1)
      have hR2 : FldR (insF q.1 q.2 acc) := by
        refine ⟨hli.1, fun x hx => ?_⟩
        have : (insF q.1 q.2 acc).any (fun y => decide (y = x)) = true := List.any_eq_true.mpr ⟨x, hx, by simp⟩
        rw [insF_any] at this
        rcases (Bool.or_eq_true _ _).mp this with h | h
        · have := of_decide_eq_true h
          rw [← this]
          exact hqR.2 q (by simp)
        · obtain ⟨y, hy, e⟩ := List.any_eq_true.mp h
          rw [← of_decide_eq_true e]
          exact h4.2 y hy
      obtain ⟨LV', r⟩ := ih todo (insF q.1 q.2 acc) (va_up L1 2 (.int (nI (o + base.length + acc.length + 1)))) (by omega) (by rw [hli.2]; omega) (by rw [hli.2]; omega) hR2 ⟨fun x hx => h5.1 x (by simp [hx]), fun x hx => h5.2 x (by simp [hx])⟩ k1 (by rw [hli.2]; simp [va_up, Nat.add_assoc])
      refine ⟨LV', ?_⟩
      rw [List.foldl_cons, ← r, rn_wh]
      have ef : base ++ fvs l' ++ tv q.2 :: (fvs r' ++ fvs todo) = base ++ fvs (insF q.1 q.2 acc) ++ fvs todo := by rw [← g1]; simp [fvs]
      have es : vset (stM ps ((o, base ++ fvs l' ++ h' :: (fvs r' ++ fvs todo)), g) j) 17 (.int (nI (o + base.length + l'.length))) (tv q.2) = some (stM ps ((o, base ++ fvs (insF q.1 q.2 acc) ++ fvs todo), g) j) := by
        rw [ms17 (by simp [fvs]; omega) (by omega), ef]
      have ec : ∀ A : AS, A = stM ps ((o, base ++ fvs acc ++ fvs (q :: todo)), g) j → bCmp .lt (aL 2) (aSz 17) LV A = some (some true, A) := by
        intro A hA
        subst hA
        simp only [d10, eq_self, decide_true, decide_false, ti_b, b2i_t, b2i_f, aK, aL, aF, aSz, aBin, aDiv, aB, aAt, aNd, aArgs, aCall, aIf, bCmp, bZ, bAnd, bOr, bNot, bTT, bIf, ab_ok, ab_no, ab_none, ab_ab, ab_ite, aok_ok, aok_none, og_ok, og_none, vbin_i, vb8_i, vput_i, vI_i, cmp_i, hold_eq, hold_ne, hold_lt, hold_ge, hold_gt, hold_le, b2i_0, ss_b, ss_ite, oAdd, oSub, oMul, Option.bind_some, A0of, va_up, List.length_nil, List.length_cons, List.getD_cons_zero, List.getD_cons_succ, List.getD_nil, if_true, if_false, Bool.not_not, Bool.not_true, Bool.not_false, Bool.false_eq_true, reduceIte, Nat.reduceSub, Nat.reduceAdd, Nat.reduceEqDiff, sM_f13, sM_f14, sM_f11, sM_f19, sM_f20, sM_f21, sM_R17, sM_R18, sM_R4, sM_R5, sM_o17, sM_o18, sM_o4, sM_o5, sM_nn, sM_fl, h7, e]
      have e3 : aAt 17 (aL 2) LV (stM ps ((o, base ++ fvs acc ++ fvs (q :: todo)), g) j) = some (some (tv q.2), stM ps ((o, base ++ fvs acc ++ fvs (q :: todo)), g) j) := by
        unfold aAt
        rw [aL_e, ab_ok, h7, sM_R17, sM_o17, a1]
        rfl
      rw [ec _ rfl, ab_ok, if_pos rfl, rn_seq, rn_set, e3, ab_ok, rn_seq, rn_set, aL_e, ab_ok, show va_up LV 3 (tv q.2) 2 = LV 2 from rfl, h7, rn_seq, er, show LN = 99999 + 1 from rfl, g5, rn_at, aL_e, ab_ok, aL_e, ab_ok, g3, k3, es, og_ok, rn_inc, k2, vbin_i, aok_ok, ab_ok, show oAdd (nI (o + base.length + acc.length)) 1 = nI (o + base.length + acc.length + 1) from nI_1 _]
theorem m_sort (hm : 2 ≤ m) {o : Nat} {base : List V} {items : List (Int32 × TR)} {g : Nat × List V} (hR : FldR items) (h1 : items.length < 99990) (h2 : o + base.length + items.length + 5 < 2 ^ 30) : aM m 40 [.int (nI (o + base.length))] (stM ps ((o, base ++ fvs items), g) j) = some (some (.int 0), stM ps ((o, base ++ fvs (srt items)), g) j) := by
  obtain ⟨n, rfl⟩ := suc1 (m := m) (by omega)
  have e1 : ∀ (L : AL) (A : AS), L 1 = .int (nI (o + base.length)) → aBin oAdd (aL 1) (aK 1) L A = some (some (.int (nI (o + base.length + 1))), A) := by
    intro L A h
    simp only [d10, eq_self, decide_true, decide_false, ti_b, b2i_t, b2i_f, aK, aL, aF, aSz, aBin, aDiv, aB, aAt, aNd, aArgs, aCall, aIf, bCmp, bZ, bAnd, bOr, bNot, bTT, bIf, ab_ok, ab_no, ab_none, ab_ab, ab_ite, aok_ok, aok_none, og_ok, og_none, vbin_i, vb8_i, vput_i, vI_i, cmp_i, hold_eq, hold_ne, hold_lt, hold_ge, hold_gt, hold_le, b2i_0, ss_b, ss_ite, oAdd, oSub, oMul, Option.bind_some, A0of, va_up, List.length_nil, List.length_cons, List.getD_cons_zero, List.getD_cons_succ, List.getD_nil, if_true, if_false, Bool.not_not, Bool.not_true, Bool.not_false, Bool.false_eq_true, reduceIte, Nat.reduceSub, Nat.reduceAdd, Nat.reduceEqDiff, h, nI_1]
  rw [eM_sort, zM_sort, amth_run, if_pos (show [Term.int (nI (o + base.length))].length = 1 from rfl), run_seq, run_seq, run_set, e1 _ _ rfl, kS_ok, run_rn, show LN = 99999 + 1 from rfl]
  cases items with
  | nil =>
    have e : ∀ L : AL, L 2 = .int (nI (o + base.length + 1)) → bCmp .lt (aL 2) (aSz 17) L (stM ps ((o, base ++ fvs []), g) j) = some (some false, stM ps ((o, base ++ fvs []), g) j) := by
      intro L h
      have e : decide (nI (o + base.length + 1) < nI (o + (base ++ fvs []).length)) = false := decide_eq_false (nI_nlt (by simp [fvs]) (by omega))
      simp only [d10, eq_self, decide_true, decide_false, ti_b, b2i_t, b2i_f, aK, aL, aF, aSz, aBin, aDiv, aB, aAt, aNd, aArgs, aCall, aIf, bCmp, bZ, bAnd, bOr, bNot, bTT, bIf, ab_ok, ab_no, ab_none, ab_ab, ab_ite, aok_ok, aok_none, og_ok, og_none, vbin_i, vb8_i, vput_i, vI_i, cmp_i, hold_eq, hold_ne, hold_lt, hold_ge, hold_gt, hold_le, b2i_0, ss_b, ss_ite, oAdd, oSub, oMul, Option.bind_some, A0of, va_up, List.length_nil, List.length_cons, List.getD_cons_zero, List.getD_cons_succ, List.getD_nil, if_true, if_false, Bool.not_not, Bool.not_true, Bool.not_false, Bool.false_eq_true, reduceIte, Nat.reduceSub, Nat.reduceAdd, Nat.reduceEqDiff, sM_f13, sM_f14, sM_f11, sM_f19, sM_f20, sM_f21, sM_R17, sM_R18, sM_R4, sM_R5, sM_o17, sM_o18, sM_o4, sM_o5, sM_nn, sM_fl, h, e]
    rw [rn_wh, e _ rfl, ab_ok, if_neg (by decide), run_ret0, fin_v]
    rfl
  | cons q items =>
    simp only [List.length_cons] at h1 h2
    obtain ⟨LV', r⟩ := m_sort_loop (m := n) (ps := ps) (j := j) (o := o) (base := base) (g := g) (K := run [zRet0] nk) (B := nk) (C := nk) (by omega) 99999 items [q] (va_up (A0of true [.int (nI (o + base.length))]) 2 (.int (nI (o + base.length + 1)))) (by omega) (by simp; omega) (by simp; omega) ⟨fun x hx => hR.1 x (by simp at hx; simp [hx]), fun x hx => hR.2 x (by simp at hx; simp [hx])⟩ ⟨fun x hx => hR.1 x (by simp [hx]), fun x hx => hR.2 x (by simp [hx])⟩ rfl rfl
    have er : base ++ fvs (q :: items) = base ++ fvs [q] ++ fvs items := by simp [fvs]
    rw [er, r, run_ret0, fin_v]
    rfl
end MSO
