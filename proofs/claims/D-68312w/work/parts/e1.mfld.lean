/-! M: fields of record patterns -/
section MFD
variable {α β : Type} {W : Bool} {em : α → V} {em2 : β → V} {tk : TK} {f f1 f' fo : FM} {j j1 j' j0 : AS} {B B1 : Nat} {r : Option (Option V × AS)} {ps ps' : PS} {m n k k' : Nat} {LV : AL}
theorem nI_subx (x : Nat) : ∃ y, oSub (nI x) 1 = nI y := ⟨x + 4294967295, by
  show nI x - 1 = _
  rw [← nI_add, Int32.sub_eq_add_neg]
  rfl⟩
theorem nm5 {x : Int32} (h0 : 0 ≤ x) : decide (x < 5) = isProt x := by
  unfold isProt
  rw [decide_eq_true h0, Bool.true_and, decide_eq_decide, Int32.lt_iff_toInt_lt, Int32.le_iff_toInt_le]
  have a : (5 : Int32).toInt = 5 := by decide
  have b : (4 : Int32).toInt = 4 := by decide
  omega
theorem m_field {ty pat : PA TR} {c o : Nat} {base : List V} {g : Nat × List V} {items : List (Int32 × TR)} {F : TR → PA β} {g0 : V → AS → Option (Option V × AS)} (hpg : PGr tk pat) (hpt : CoP W tk c 30 18 [] pat) (htg : PGr tk ty) (hty : CoM W tv tk c 30 35 [] ty) (hn : max c 5 + 1 ≤ n) (hP : PRM tk ps ((o, base ++ fvs items), g) j (n + 1)) (hj : jfm W j0 j) (hR : FldR items)
    (hK : labB tk ps.1 = true → ∀ v a j', ps.1 < a → a ≤ Tn tk → jfm W j0 j' → j'.nn + 100 * (Tn tk - a) + 60 ≤ j.nn + 100 * (Tn tk - ps.1) → CTm W em2 tk fo j0 B (g0 (tv (34, .int (labV tk ps.1), tv v, no, nI ps.1)) (stM (a, ps.2) ((o, base ++ fvs items), g) j')) (F v (a, ps.2)))
    (hb : labB tk ps.1 = true → ∀ v ps' j', ps'.1 ≤ Tn tk → TKM tk j' → jfm W j0 j' → sg tk ps'.1 4 = true → j'.nn + 100 * (Tn tk - ps'.1) + 60 ≤ j.nn + 100 * (Tn tk - ps.1) → CTm W em2 tk fo j0 B (g0 (tv v) (stM ps' ((o, base ++ fvs items), g) j')) (pflt 1 ps')) :
    CTm W em2 tk fo j0 B (ab (aM n 29 [.int (nI (o + base.length))] (stM ps ((o, base ++ fvs items), g) j)) g0)
      (if labB tk ps.1 = true then (if items.any (fun q => decide (q.1 = labV tk ps.1)) = true then pflt 2 ps else pb (grQ tk (pFpat tk ty pat (labV tk ps.1) ps.1)) F (ps.1 + 1, ps.2)) else pflt 1 ps) := by
  obtain ⟨n, rfl⟩ := suc1 (m := n) (by omega)
  have hP0 := hP.dn
  obtain ⟨ht, hT, hps, ha, ho, hfr, hS⟩ := id hP0
  have hA : ALM = 30000 := rfl
  have hil : fSm ((o, base ++ fvs items), g) = o + (base.length + items.length) + g.1 + g.2.length := by simp [fSm]
  rw [eM_field, zM_field, amth_run, if_pos (show [Term.int (nI (o + base.length))].length = 1 from rfl), fin_ok, run_seq, run_set, aF_e, kS_ok, sM_f13, run_seq, run_ex, aCall_1, aL_e, ab_ok, show va_up (A0of true [Term.int (nI (o + base.length))]) 2 (.int (nI ps.1)) 1 = .int (nI (o + base.length)) from rfl, m_checkLabel (by omega) ht hT ha hR.1 (by omega) (by omega)]
  cases hl : labB tk ps.1 with
  | false =>
    rw [if_neg (by decide), if_neg (by decide), kE_no, ab_no]
    exact ctm_flt hj
  | true =>
    have hlt := lab_lt hl
    have hl00 := hl
    have hP1 := hP0.one hlt
    have ha1 : (ps.1 + 1, ps.2).1 ≤ Tn tk := hlt
    rw [if_pos rfl, if_pos rfl]
    cases hy : items.any (fun q => decide (q.1 = labV tk ps.1)) with
    | true =>
      rw [if_pos rfl, if_pos rfl, kE_no, ab_no]
      exact ctm_flt hj
    | false =>
      rw [if_neg (by decide), if_neg (by decide), kE_ok, run_seq, run_set, aIf01 (mK n (by omega) ht hT ha 6), kS_ok, run_seq, run_set, aCall_nil, m_label (by omega) ht hT ha, hl, if_pos rfl, kS_ok]
      refine ctm_pbQ ?_
      have ec : ∀ L : AL, L 3 = .int (b2i (decide (kAt tk ps.1 = 6))) → (bOr (bZ .ne (aL 3)) (bZ .ne (aCall (aM n) 6 [(aK 45)]))) L (stM (ps.1 + 1, ps.2) ((o, base ++ fvs items), g) j) = some (some (decide (kAt tk ps.1 = 6) || sg tk (ps.1 + 1) 45), stM (ps.1 + 1, ps.2) ((o, base ++ fvs items), g) j) := by
        intro L h
        exact bOr_e (bZn_e (by rw [aL_e, h])) (mS n (by omega) ht hT ha1 45)
      have hKq : ∀ v ps' j', PG tk (ps.1 + 1, ps.2) ps' ∨ ps' = (ps.1 + 1, ps.2) → jfm W j0 j' → j'.nn + 100 * (Tn tk - ps'.1) + 60 ≤ j.nn + 100 * (Tn tk - ps.1) → CTm W em2 tk fo j0 B (g0 (tv (34, .int (labV tk ps.1), tv v, no, nI ps.1)) (stM ps' ((o, base ++ fvs items), g) j')) (if (ps.1 + 1, ps.2).1 ≤ ps'.1 ∧ ps'.1 ≤ Tn tk ∧ ps'.2 = (ps.1 + 1, ps.2).2 then F v ps' else none) := by
        intro v ps' j' hg h1 h2
        by_cases hc : (ps.1 + 1, ps.2).1 ≤ ps'.1 ∧ ps'.1 ≤ Tn tk ∧ ps'.2 = (ps.1 + 1, ps.2).2
        · rw [if_pos hc]
          obtain ⟨c1, c2, c3⟩ := hc
          obtain ⟨a, s2⟩ := ps'
          dsimp only at c1 c2 c3 h2
          subst c3
          exact hK hl00 v a j' (by omega) c2 h1 h2
        · rw [if_neg hc]
          exact trivial
      have emk34 : ∀ (ps' : PS) (j' : AS) (v : TR), j'.nn < ALM → aM n 16 [.int 34, .int (labV tk ps.1), tv v, .int (-1), .int (nI ps.1)] (stM ps' ((o, base ++ fvs items), g) j') = some (some (tv (34, .int (labV tk ps.1), tv v, no, nI ps.1)), stM ps' ((o, base ++ fvs items), g) (mkN j' 1)) := fun ps' j' v h => m_makeF (by omega) (by decide) h
      rw [run_seq, run_if, ec _ rfl]
      generalize hFq : (fun v (ps' : PS) => if (ps.1 + 1, ps.2).1 ≤ ps'.1 ∧ ps'.1 ≤ Tn tk ∧ ps'.2 = (ps.1 + 1, ps.2).2 then F v ps' else none) = Fq
      have hKq' : ∀ v ps' j', PG tk (ps.1 + 1, ps.2) ps' ∨ ps' = (ps.1 + 1, ps.2) → jfm W j0 j' → j'.nn + 100 * (Tn tk - ps'.1) + 60 ≤ j.nn + 100 * (Tn tk - ps.1) → CTm W em2 tk fo j0 B (g0 (tv (34, .int (labV tk ps.1), tv v, no, nI ps.1)) (stM ps' ((o, base ++ fvs items), g) j')) (Fq v ps') := by
        rw [← hFq]
        exact hKq
      cases h45 : sg tk (ps.1 + 1) 45 with
      | true =>
        have hlt1 : ps.1 + 1 < Tn tk := sg_lt h45
        rw [Bool.or_true, kI_t, run_seq, run_ex, aCall_1, aK_e, ab_ok, m_need (by omega) ht hT ha1, h45, if_pos rfl, kE_ok, run_ret]
        rw [pb_at (p' := pat) (ps' := (ps.1 + 1 + 1, ps.2)) (by unfold pFpat; simp only [h45, if_true])]
        simp only [aCall, aArgs, aK, aL, ab_ok, ab_ab, A0of, va_up, List.length_nil, List.length_cons, List.getD_cons_zero, List.getD_cons_succ, List.getD_nil, if_true, if_false, Bool.not_not, Bool.not_true, Bool.not_false, Bool.false_eq_true, reduceIte, Nat.reduceSub, Nat.reduceAdd, Nat.reduceEqDiff]
        refine ctm_stP hpt hpg (by omega) (by omega) (hP1.one hlt1) hj (fun v ps3 j3 g3 hP3 hj3 hB3 => ?_) (fun v ps3 j3 c1 c2 c3 c4 c5 => ?_)
        · dsimp only at hB3
          have hS3 := hP3.2.2.2.2.2.2
          simp only [ab_ok, emk34 ps3 j3 v (by omega)]
          exact hKq' v ps3 (mkN j3 1) (Or.inl (PG.trans (PG.one (ps := (ps.1 + 1, ps.2)) hps hlt1).e g3)) (hj3.mk _) (by rw [mkN_nn]; omega)
        · dsimp only at c5
          simp only [ab_ok, emk34 ps3 j3 v (by omega)]
          exact hb hl00 _ ps3 (mkN j3 1) c1 c2 (c3.mk _) c4 (by rw [mkN_nn]; omega)
      | false =>
        rw [Bool.or_false]
        by_cases h6 : kAt tk ps.1 = 6
        · rw [decide_eq_true h6, kI_t, run_seq, run_ex, aCall_1, aK_e, ab_ok, m_need (by omega) ht hT ha1, h45, if_neg (by decide), kE_no, ab_no]
          have hl0 : ¬ labV tk ps.1 < 0 := by
            have hr := lab_R ht hl
            unfold labB at hl
            unfold labV at hr ⊢
            rw [if_pos h6] at hr ⊢
            have hn6 : nmB tk ps.1 = false := by simp [nmB, h6]
            rw [hn6, Bool.or_false, Bool.and_eq_true, decide_eq_true_eq, decide_eq_true_eq] at hl
            exact fun q => Int32.lt_irrefl (Int32.lt_trans hl.2 q)
          rw [pb_flt (k := 1) (by unfold pFpat; simp only [h45, hl0, Bool.false_eq_true, if_false])]
          exact ctm_flt hj
        · have hneg : labV tk ps.1 < 0 := by
            have hr := lab_R ht hl
            have hn6 : nmB tk ps.1 = true := by unfold labB at hl; simpa [h6] using hl
            obtain ⟨_, v0, v1⟩ := nm_val ht hn6
            unfold labV
            rw [if_neg h6, Int32.lt_iff_toInt_lt]
            rw [Int32.le_iff_toInt_le] at v0 v1
            have z1 : (8191 : Int32).toInt = 8191 := by decide
            have z0 : (0 : Int32).toInt = 0 := by decide
            rw [Int32.toInt_sub, show (-1 : Int32).toInt = -1 by decide, Int.bmod_eq_of_le (by omega) (by omega)]
            omega
          obtain ⟨hnm, hval⟩ := lab_neg hl hneg
          obtain ⟨_, v0, v1⟩ := nm_val ht hnm
          have ebin : ∀ (L : AL) (A : AS), L 4 = .int (labV tk ps.1) → aBin oSub (aK (-1)) (aL 4) L A = some (some (.int (vAt tk ps.1)), A) := by
            intro L A h
            simp only [d10, eq_self, decide_true, decide_false, ti_b, b2i_t, b2i_f, aK, aL, aF, aSz, aBin, aDiv, aB, aAt, aNd, aArgs, aCall, aIf, bCmp, bZ, bAnd, bOr, bNot, bTT, bIf, ab_ok, ab_no, ab_none, ab_ab, ab_ite, aok_ok, aok_none, og_ok, og_none, vbin_i, vb8_i, vput_i, vI_i, cmp_i, hold_eq, hold_ne, hold_lt, hold_ge, hold_gt, hold_le, b2i_0, ss_b, ss_ite, oAdd, oSub, oMul, Option.bind_some, A0of, va_up, List.length_nil, List.length_cons, List.getD_cons_zero, List.getD_cons_succ, List.getD_nil, if_true, if_false, Bool.not_not, Bool.not_true, Bool.not_false, Bool.false_eq_true, reduceIte, Nat.reduceSub, Nat.reduceAdd, Nat.reduceEqDiff, h, hval]
          rw [decide_eq_false h6, kI_f, run_skip, run_seq, run_set, aCall_2, ebin _ _ rfl, ab_ok, aL_e, ab_ok]
          have hfr1 : (ps.1 + 1, ps.2).2.2.1 < 2 ^ 30 := by dsimp only; omega
          have e34 := m_variable (m := n) (ps := (ps.1 + 1, ps.2)) (f := ((o, base ++ fvs items), g)) (j := j) (i := vAt tk ps.1) (p := nI ps.1) (by omega) (by omega) v1 hfr1
          rw [show va_up (va_up (va_up (A0of true [Term.int (nI (o + base.length))]) 2 (.int (nI ps.1))) 3 (.int (b2i false))) 4 (.int (labV tk ps.1)) 2 = .int (nI ps.1) from rfl, e34, kS_ok]
          rw [pb_at (p' := pb (pOty tk ty) (pFp2 tk pat (labV tk ps.1) ps.1)) (ps' := (ps.1 + 1, ps.2)) (by unfold pFpat; simp only [h45, hneg, Bool.false_eq_true, if_true, if_false]), pb_pb]
          have tail : ∀ (t : Option TR) (ps2 : PS) (j2 : AS) (L : AL), PG tk (ps.1 + 1, ps.2) ps2 ∨ ps2 = (ps.1 + 1, ps.2) → PRM tk ps2 ((o, base ++ fvs items), g) j2 (n + 1) → jfm W j0 j2 → j2.nn + 100 * (Tn tk - ps2.1) ≤ j.nn + 1 + 100 * (Tn tk - (ps.1 + 1)) → L 2 = .int (nI ps.1) → L 4 = .int (labV tk ps.1) → L 5 = tv (tVar (vAt tk ps.1) (nI ps.1)) → L 6 = ov t →
              CTm W em2 tk fo j0 B (ab (run [zSeq (zIf (bZ .ne (aCall (aM n) 6 [(aK 4)])) (zSeq (zEx (aCall (aM n) 15 [])) (zSeq (zIf (bCmp .lt (aBin oSub (aK (-1)) (aL 4)) (aK 5)) (zEx (aCall (aM n) 11 [(aK 6), (aF 13)])) zSkip) (zSeq (zOpF oAdd 13 (aK 1)) (zSeq (zSet 5 (aCall (aM n) 16 [(aK 37), (aBin oSub (aK (-1)) (aL 4)), (aL 6), (aCall (aM n) 18 []), (aL 2)])) (zOpF oSub 14 (aK 1)))))) (zIf (bZ .ge (aL 6)) (zSet 5 (aCall (aM n) 16 [(aK 36), (aL 5), (aL 6), (aK (-1)), (aL 2)])) zSkip)) (zRet (aCall (aM n) 16 [(aK 34), (aL 4), (aL 5), (aK (-1)), (aL 2)]))] nk L (stM ps2 ((o, base ++ fvs items), g) j2)) g0) (pb (pFp2 tk pat (labV tk ps.1) ps.1 t) Fq ps2) := by
            intro t ps2 j2 L hg2 hP2 hj2 hB2 l2 l4 l5 l6
            obtain ⟨_, hT2, hps2, ha2, ho2, hfr2, hS2⟩ := id hP2
            rw [run_seq, run_if, mS n (by omega) ht hT2 ha2 4]
            cases h4 : sg tk ps2.1 4 with
            | true =>
              have hlt2 : ps2.1 < Tn tk := sg_lt h4
              rw [kI_t, run_seq, run_ex, aCall_nil, kE_ab, ab_ab, pb_at (p' := pLayer tk pat (-1 - labV tk ps.1) t ps.1) (ps' := ps2) (by unfold pFp2; simp only [h4, if_true]), hval]
              unfold pLayer
              rw [pEnter_pb]
              refine ctm_enter (by omega) hP2 hj2 fun hop => ?_
              have hT3 : TKM tk j2 := hT2
              have e5 : ∀ (L : AL) (A : AS), L 4 = .int (labV tk ps.1) → bCmp .lt (aBin oSub (aK (-1)) (aL 4)) (aK 5) L A = some (some (isProt (vAt tk ps.1)), A) := by
                intro L A h
                unfold bCmp
                rw [ebin L A h, ab_ok, aK_e, ab_ok, cmp_i, hold_lt, nm5 v0]
                rfl
              rw [run_seq, run_if, e5 _ _ l4]
              cases hpr : isProt (vAt tk ps.1) with
              | true =>
                rw [kI_t, run_ex, aCall_2, aK_e, ab_ok, aF_e, ab_ok, m_fail (by omega), kE_no, ab_no, pb_flt (k := 6) (by simp only [hpr, if_true])]
                exact ctm_flt hj2
              | false =>
                rw [kI_f, run_skip, pb_at (p' := pAdv tk (pb pat fun p => pLeave (pret (37, .int (vAt tk ps.1), ov t, tv p, nI ps.1)))) (ps' := (ps2.1, ps2.2.1 + 1, ps2.2.2)) (by simp only [hpr, Bool.false_eq_true, if_false]), pAdv_pb]
                refine ctm_adv fun hlt3 => ?_
                have hP3 := hP2.op hop hlt2
                rw [run_seq, run_opF, aK_e, kOF_ok, sM_f13, show oAdd (nI ps2.1) 1 = nI (ps2.1 + 1) from nI_1 _, sM_p13, run_seq, run_set, pb_pb]
                have ear : ∀ A, aCall (aM n) 16 [(aK 37), (aBin oSub (aK (-1)) (aL 4)), (aL 6), (aCall (aM n) 18 []), (aL 2)] L A = ab (aM n 18 [] A) fun v A => aM n 16 [.int 37, .int (vAt tk ps.1), ov t, v, .int (nI ps.1)] A := by
                  intro A
                  simp only [aCall, aArgs, aK, aL, ab_ok, ab_ab, A0of, va_up, List.length_nil, List.length_cons, List.getD_cons_zero, List.getD_cons_succ, List.getD_nil, if_true, if_false, Bool.not_not, Bool.not_true, Bool.not_false, Bool.false_eq_true, reduceIte, Nat.reduceSub, Nat.reduceAdd, Nat.reduceEqDiff, ebin L _ l4, l6, l2]
                rw [ear, kS_ab, ab_ab, ab_ab]
                refine ctm_stP hpt hpg (by omega) (by omega) hP3 hj2 (fun v ps3 j3 g3 hP3' hj3 hB3 => ?_) (fun v ps3 j3 c1 c2 c3 c4 c5 => ?_)
                · dsimp only at hB3
                  have hS3 := hP3'.2.2.2.2.2.2
                  have okt := okOv t
                  have o3 := g3.2.2.1
                  dsimp only at o3
                  have e37 := m_make (m := n) (ps := ps3) (f := ((o, base ++ fvs items), g)) (j := j3) (k := 37) (p := nI ps.1) (a := .int (vAt tk ps.1)) (b := ov t) (c := tv v) (by omega) (by omega) (by decide) rfl okt rfl
                  have e14 : nI ps3.2.1 - 1 = nI (ps3.2.1 - 1) := nI_sub1 (by omega)
                  rw [e37, ab_ok, run_opF, aK_e, kOF_ok, sM_f14, show oSub (nI ps3.2.1) 1 = nI (ps3.2.1 - 1) from e14, sM_p14, run_ret]
                  rw [pLeave_pb, pret_pb]
                  show CTm W em2 tk fo j0 B _ (Fq (37, .int (vAt tk ps.1), ov t, tv v, nI ps.1) (ps3.1, ps3.2.1 - 1, ps3.2.2))
                  have hgq : PG tk (ps.1 + 1, ps.2) (ps3.1, ps3.2.1 - 1, ps3.2.2) := by
                    have q1 : PGe tk (ps.1 + 1, ps.2) ps2 := by
                      rcases hg2 with h | h
                      · exact h.e
                      · subst h; exact PGe.rf hps hlt
                    obtain ⟨a1, a2, a3, a4, a5⟩ := q1
                    obtain ⟨b1, b2, b3, b4, b5⟩ := g3
                    dsimp only at a1 a3 a4 b1 b3 b4
                    exact ⟨by dsimp only; omega, b2, by show ps3.2.1 - 1 = ps.2.1; omega, by show ps3.2.2.1 + ps3.2.2.2.2.1.length + 100 * (Tn tk - ps3.1) ≤ _; dsimp only; omega, b5⟩
                  have e34b := emk34 (ps3.1, ps3.2.1 - 1, ps3.2.2) (mkN j3 1) (37, .int (vAt tk ps.1), ov t, tv v, nI ps.1) (by rw [mkN_nn]; omega)
                  have l4' : va_up L 5 (tv (37, .int (vAt tk ps.1), ov t, tv v, nI ps.1)) 4 = .int (labV tk ps.1) := l4
                  have l2' : va_up L 5 (tv (37, .int (vAt tk ps.1), ov t, tv v, nI ps.1)) 2 = .int (nI ps.1) := l2
                  simp only [aCall, aArgs, aK, aL, ab_ok, l4', l2', va_up_self, e34b]
                  exact hKq' _ _ (mkN (mkN j3 1) 1) (Or.inl hgq) ((hj3.mk _).mk _) (by simp only [mkN_nn]; omega)
                · dsimp only at c5
                  have okt := okOv t
                  have e37 := m_make (m := n) (ps := ps3) (f := ((o, base ++ fvs items), g)) (j := j3) (k := 37) (p := nI ps.1) (a := .int (vAt tk ps.1)) (b := ov t) (c := tv v) (by omega) (by omega) (by decide) rfl okt rfl
                  have l4' : va_up L 5 (tv (37, .int (vAt tk ps.1), ov t, tv v, nI ps.1)) 4 = .int (labV tk ps.1) := l4
                  have l2' : va_up L 5 (tv (37, .int (vAt tk ps.1), ov t, tv v, nI ps.1)) 2 = .int (nI ps.1) := l2
                  obtain ⟨y, hy0⟩ := nI_subx ps3.2.1
                  have e34b := emk34 (ps3.1, y, ps3.2.2) (mkN j3 1) (37, .int (vAt tk ps.1), ov t, tv v, nI ps.1) (by rw [mkN_nn]; omega)
                  rw [e37, ab_ok, run_opF, aK_e, kOF_ok, sM_f14, hy0, sM_p14, run_ret]
                  simp only [aCall, aArgs, aK, aL, ab_ok, l4', l2', va_up_self, e34b]
                  exact hb hl00 _ (ps3.1, y, ps3.2.2) (mkN (mkN j3 1) 1) c1 c2 ((c3.mk _).mk _) c4 (by simp only [mkN_nn]; omega)
            | false =>
              rw [kI_f, run_if, pb_val (v := tFv (-1 - labV tk ps.1) ps.1 t) (ps' := ps2) (by unfold pFp2; simp only [h4, Bool.false_eq_true, if_false]), hval]
              cases t with
              | none =>
                have e6 : bZ .ge (aL 6) L (stM ps2 ((o, base ++ fvs items), g) j2) = some (some false, stM ps2 ((o, base ++ fvs items), g) j2) := by
                  unfold bZ
                  rw [aL_e, l6]
                  rfl
                have e34b := emk34 ps2 j2 (tVar (vAt tk ps.1) (nI ps.1)) (by omega)
                rw [e6, kI_f, run_skip, run_ret]
                simp only [aCall, aArgs, aK, aL, ab_ok, l2, l4, l5, e34b]
                exact hKq' (tVar (vAt tk ps.1) (nI ps.1)) ps2 (mkN j2 1) hg2 (hj2.mk _) (by rw [mkN_nn]; omega)
              | some y =>
                have e6 : bZ .ge (aL 6) L (stM ps2 ((o, base ++ fvs items), g) j2) = some (some true, stM ps2 ((o, base ++ fvs items), g) j2) := by
                  unfold bZ
                  rw [aL_e, l6]
                  rfl
                have e36 := m_make (m := n) (ps := ps2) (f := ((o, base ++ fvs items), g)) (j := j2) (k := 36) (p := nI ps.1) (a := tv (tVar (vAt tk ps.1) (nI ps.1))) (b := tv y) (c := .int (-1)) (by omega) (by omega) (by decide) rfl rfl rfl
                have e34b := emk34 ps2 (mkN j2 1) (36, tv (tVar (vAt tk ps.1) (nI ps.1)), tv y, no, nI ps.1) (by rw [mkN_nn]; omega)
                have l6' : L 6 = tv y := l6
                rw [e6, kI_t, run_set]
                simp only [aCall, aArgs, aK, aL, ab_ok, l2, l5, l6', e36, kS_ok, run_ret]
                have l4' : va_up L 5 (tv (36, tv (tVar (vAt tk ps.1) (nI ps.1)), tv y, no, nI ps.1)) 4 = .int (labV tk ps.1) := l4
                have l2' : va_up L 5 (tv (36, tv (tVar (vAt tk ps.1) (nI ps.1)), tv y, no, nI ps.1)) 2 = .int (nI ps.1) := l2
                simp only [l4', l2', va_up_self, e34b, ab_ok]
                exact hKq' (36, tv (tVar (vAt tk ps.1) (nI ps.1)), tv y, no, nI ps.1) ps2 (mkN (mkN j2 1) 1) hg2 ((hj2.mk _).mk _) (by simp only [mkN_nn]; omega)
          rw [run_seq, run_set]
          cases h40 : sg tk (ps.1 + 1) 40 with
          | false =>
            have hPm : PRM tk (ps.1 + 1, ps.2) ((o, base ++ fvs items), g) (mkN j 1) (n + 1) := ⟨ht, hT, hps, ha1, ho, by dsimp only; omega, by rw [mkN_nn]; dsimp only; omega⟩
            have e10 : ∀ L : AL, (aIf (bZ .ne (aCall (aM n) 9 [(aK 40)])) (aCall (aM n) 35 []) (aK (-1))) L (stM (ps.1 + 1, ps.2) ((o, base ++ fvs items), g) (mkN j 1)) = some (some (ov none), stM (ps.1 + 1, ps.2) ((o, base ++ fvs items), g) (mkN j 1)) := by
              intro L
              unfold aIf
              rw [m_eatB (by omega) hPm, ab_ok, h40]
              rfl
            rw [e10, kS_ok, pb_val (v := none) (ps' := (ps.1 + 1, ps.2)) (by unfold pOty; simp only [h40, Bool.false_eq_true, if_false])]
            exact tail none (ps.1 + 1, ps.2) (mkN j 1) _ (Or.inr rfl) ⟨ht, hT, hps, ha1, ho, by dsimp only; omega, by rw [mkN_nn]; dsimp only; omega⟩ (hj.mk _) (by rw [mkN_nn]; dsimp only; omega) rfl rfl rfl rfl
          | true =>
            have hlt1 : ps.1 + 1 < Tn tk := sg_lt h40
            have hPm : PRM tk (ps.1 + 1, ps.2) ((o, base ++ fvs items), g) (mkN j 1) (n + 1) := ⟨ht, hT, hps, ha1, ho, by dsimp only; omega, by rw [mkN_nn]; dsimp only; omega⟩
            have e10 : ∀ L : AL, (aIf (bZ .ne (aCall (aM n) 9 [(aK 40)])) (aCall (aM n) 35 []) (aK (-1))) L (stM (ps.1 + 1, ps.2) ((o, base ++ fvs items), g) (mkN j 1)) = aM n 35 [] (stM (ps.1 + 1 + 1, ps.2) ((o, base ++ fvs items), g) (mkN j 1)) := by
              intro L
              unfold aIf
              rw [m_eatB (by omega) hPm, ab_ok, h40]
              rfl
            rw [e10, kS_ab, ab_ab, pb_at (p' := pb ty (fun t => pret (some t))) (ps' := (ps.1 + 1 + 1, ps.2)) (by unfold pOty; simp only [h40, if_true]), pb_pb]
            refine ctm_st hty htg (by omega) (by omega) (hPm.one hlt1) (hj.mk _) fun y ps2 j2 g2 hP2 hj2 hB2 => ?_
            dsimp only at hB2
            rw [mkN_nn] at hB2
            rw [pret_pb]
            exact tail (some y) ps2 j2 _ (Or.inl (PG.trans (PG.one (ps := (ps.1 + 1, ps.2)) hps hlt1).e g2)) hP2 hj2 (by omega) rfl rfl rfl rfl
end MFD
