/-! M: applied patterns -/
section MAA
variable {α β : Type} {W : Bool} {em : α → V} {em2 : β → V} {tk : TK} {f f1 f' fo : FM} {j j1 j' j0 : AS} {B B1 : Nat} {r : Option (Option V × AS)} {ps ps' : PS} {m n k k' : Nat} {LV : AL}
theorem pb_id {p : PA α} {F : α → PA α} (h : ∀ v ps', p ps = some (.inl (v, ps')) → F v ps' = some (.inl (v, ps'))) : pb p F ps = p ps := by
  unfold pb
  cases hp : p ps with
  | none => rfl
  | some q =>
    match q, hp with
    | .inr e, _ => rfl
    | .inl (v, ps'), hp => exact h v ps' hp
theorem id_k1 (hid : idB tk ps = true) : cstB tk ps.1 = false ∧ (!decide (kAt tk ps.1 = 1) || sg tk ps.1 22) = true ∧ (sg tk ps.1 22 || nmB tk ps.1 || decide (kAt tk ps.1 = 5)) = true := by
  unfold idB at hid
  cases h22 : sg tk ps.1 22 with
  | true =>
    refine ⟨?_, by simp, by simp⟩
    unfold sg at h22
    simp only [Bool.and_eq_true, decide_eq_true_eq] at h22
    unfold cstB
    rw [h22.1]
    decide
  | false =>
    rw [h22, Bool.or_false] at hid
    rcases (Bool.or_eq_true _ _).mp hid with h | h
    · have hn := ((Bool.and_eq_true _ _).mp h).1
      refine ⟨?_, ?_, by rw [hn]; simp⟩
      · unfold nmB at hn
        unfold cstB
        rcases (Bool.or_eq_true _ _).mp hn with h | h <;> rw [of_decide_eq_true h] <;> decide
      · unfold nmB at hn
        rcases (Bool.or_eq_true _ _).mp hn with h | h <;> rw [of_decide_eq_true h] <;> decide
    · refine ⟨?_, ?_, by rw [h]; simp⟩
      · unfold cstB
        rw [of_decide_eq_true h]
        decide
      · rw [of_decide_eq_true h]
        decide
theorem m_applied {ty pat : PA TR} {c : Nat} (hap : CoM W tv tk c 60 25 [] (pApat tk ty pat)) : CoM W tv tk (max c 6 + 1) 50 23 [] (pAppl tk ty pat) := by
  intro k ps f j B hk hP hB
  obtain ⟨n, rfl⟩ := suc1 (m := k) (by omega)
  obtain ⟨ht, hT, hps, ha, ho, hfr, hS⟩ := id hP
  have hA : ALM = 30000 := rfl
  refine ctm_gT ?_
  rw [eM_applied, zM_applied, amth_run, List.length_nil, if_pos rfl, fin_ok, run_seq, run_set, aF_e, kS_ok, sM_f13, run_seq, run_if, bNot_e (aCall0_b (m_isId (by omega) ht hT ha hps))]
  cases hid : idB tk ps with
  | false =>
    rw [Bool.not_false, kI_t, run_ret, aCall_nil, pb_id]
    · exact hap n ps f j B (by omega) hP.dn (by omega)
    · intro v ps' hp
      have h22 : sg tk ps.1 22 = false := by
        unfold idB at hid
        cases h : sg tk ps.1 22 with
        | false => rfl
        | true => rw [h, Bool.or_true] at hid; cases hid
      unfold idB at hid
      simp only [Bool.or_eq_false_iff] at hid
      obtain ⟨⟨x1, x2⟩, x3⟩ := hid
      have hn : nmB tk ps.1 = false := by
        cases hn : nmB tk ps.1 with
        | false => rfl
        | true =>
          exfalso
          have hk : kAt tk ps.1 = 2 ∨ kAt tk ps.1 = 3 := by
            unfold nmB at hn
            rcases (Bool.or_eq_true _ _).mp hn with h | h
            · exact Or.inl (of_decide_eq_true h)
            · exact Or.inr (of_decide_eq_true h)
          have hc : cstB tk ps.1 = false := by unfold cstB; rcases hk with h | h <;> rw [h] <;> decide
          have hk1 : (!decide (kAt tk ps.1 = 1) || sg tk ps.1 22) = true := by rcases hk with h | h <;> rw [h] <;> simp
          have hp' := (grT_ok hp).1
          rw [if_neg (by rw [hc]; decide), if_pos hk1] at hp'
          unfold pIdent at hp'
          rw [if_neg (by rw [h22]; decide), if_neg (of_decide_eq_false x2), if_neg (by rw [x1]; decide)] at hp'
          cases hp'
      rw [if_neg]
      rw [h22, hn, x2]
      simp
  | true =>
    obtain ⟨i1, i2, i3⟩ := id_k1 hid
    rw [Bool.not_true, kI_f, run_skip, run_seq, run_set, aCall_1, aK_e, ab_ok, kS_ab]
    refine ctm_pbT ?_
    rw [pb_at (p' := pb (idV tk true) (fun v => pret (32, .int v.1, .int v.2, no, nI ps.1))) (ps' := ps) (by rw [if_neg (by rw [i1]; decide), if_pos i2, pIdent_id hid]), pb_pb]
    refine ctm_id (q := true) (by omega) hP (jfm.rf j) fun v a _ q1 q2 q3 hj1 hT1 => ?_
    have hfr1 : (a, ps.2).2.2.1 < 2 ^ 30 := by dsimp only; omega
    have ha1 : (a, ps.2).1 ≤ Tn tk := q2
    have e19 : ∀ L : AL, aF 19 L (stM (a, ps.2) f (apF j 19 v.2)) = some (some (.int v.2), stM (a, ps.2) f (apF j 19 v.2)) := by
      intro L
      rw [aF_e, sM_f19]
      rfl
    rw [pret_pb, run_seq, run_set, e19, kS_ok, run_ret, i3, Bool.true_and]
    unfold aIf
    rw [aCall0_b (m_isAp (by omega) ht hT1 ha1 hps), ab_ok]
    have hP1 : PRM tk (a, ps.2) f (apF j 19 v.2) (n + 1) := hP.at (by omega) q2 ((jfm.rf (W := true) j).p19 v.2) (by show fSm f + j.nn + _ + _ ≤ _; omega)
    cases hb : begP tk (a, ps.2) with
    | true =>
      rw [if_pos rfl, if_pos rfl]
      simp only [aCall, aArgs, aK, aL, ab_ok, ab_ab, A0of, va_up, List.length_nil, List.length_cons, List.getD_cons_zero, List.getD_cons_succ, List.getD_nil, if_true, if_false, Bool.not_not, Bool.not_true, Bool.not_false, Bool.false_eq_true, reduceIte, Nat.reduceSub, Nat.reduceAdd, Nat.reduceEqDiff, vI_i]
      refine ctm_st hap pgr_grT (by omega) (by omega) hP1 hj1 fun o ps2 j2 g2 hP2 hj2 hB2 => ?_
      have hB2' : j2.nn + 100 * (Tn tk - ps2.1) + 60 ≤ j.nn + 100 * (Tn tk - a) := hB2
      have hS2 := hP2.2.2.2.2.2.2
      have emk := m_make (m := n) (ps := ps2) (f := f) (j := j2) (k := 35) (p := nI ps.1) (a := .int v.1) (b := .int v.2) (c := tv o) (by omega) (by omega) (by decide) rfl rfl rfl
      simp only [ab_ok, emk]
      exact ctm_ret (hj2.mk _) (by rw [mkN_nn]; omega)
    | false =>
      have emk := m_makeN (m := n) (ps := (a, ps.2)) (f := f) (j := apF j 19 v.2) (k := 32) (i := v.1) (p := nI ps.1) (b := .int v.2) (c := .int (-1)) (by omega) (show j.nn < ALM by omega) (by decide) q3 hfr1 rfl rfl
      rw [if_neg (show ¬ false = true by decide), if_neg (show ¬ false = true by decide)]
      simp only [aCall, aArgs, aK, aL, ab_ok, ab_ab, A0of, va_up, List.length_nil, List.length_cons, List.getD_cons_zero, List.getD_cons_succ, List.getD_nil, if_true, if_false, Bool.not_not, Bool.not_true, Bool.not_false, Bool.false_eq_true, reduceIte, Nat.reduceSub, Nat.reduceAdd, Nat.reduceEqDiff, emk]
      exact ctm_ret (v := ((32, .int v.1, .int v.2, no, nI ps.1) : TR)) (ps := (a, ps.2)) (hj1.mk _) (by rw [mkN_nn]; show j.nn + 1 + _ ≤ B; dsimp only; omega)
end MAA
