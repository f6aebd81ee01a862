/-! M: heads of clauses, whole -/
section MHE
variable {α β : Type} {em : α → V} {em2 : β → V} {tk : TK} {f f1 f' fo : FM} {j j1 j' j0 : AS} {B B1 a : Nat} {r : Option (Option V × AS)} {ps ps' : PS} {m n k k' : Nat} {LV : AL} {zs : List ZX} {aq ap : PA TR} {c b o : Nat} {row : List V} {gg : Nat × List V}
theorem run_ab {g : V → AS → Option (Option V × AS)} {z : ZX} {A : AS} (h : ∀ f L' A', z LV A = some (f, L', A') → f.1 ≠ 1) : ab (run (z :: zs) nk LV A) g = rn (z LV A) (fun L A => ab (run zs nk L A) g) (fun L A => ab (nk L A) g) (fun L A => ab (nk L A) g) := by
  rw [run_rn, rn_ab h]
theorem m_head {F : Int32 × List TR → PA β} {g : V → AS → Option (Option V × AS)} (haq : CoM true tv tk c 60 25 [] aq) (hqa : PGt tk aq) (hff : ∀ ps e, aq ps = some (.inr e) → e.2.2 = ps.2.2.2) (hno : ∀ ps, begP tk ps = false → aq ps = pflt 1 ps)
    (htf : ∀ ps e, sg tk ps.1 33 = true → pTry tk aq ps = some (.inr e) → FN e (ap ps)) (hap : CoM true tv tk c 60 25 [] ap) (hq : PGt tk ap) (hn : max c 5 + 3 ≤ n) (hP : PRM tk ps ((o, row), gg) j (n + 1)) (hj : jfm false j0 j)
    (hK : ∀ nm ts a j', ps.1 < a → a ≤ Tn tk → 1 ≤ ts.length → jfm true j j' → 0 ≤ nm ∧ nm ≤ 8191 → j'.nn + 100 * (Tn tk - a) + 50 * ts.length ≤ j.nn + 100 * (Tn tk - ps.1) → CTm false em2 tk fo j0 B (g (.int nm) (stM (a, ps.2) ((o, row ++ ts.map tv), gg) j')) (F (nm, ts) (a, ps.2))) :
    CTm false em2 tk fo j0 B (ab (aM n 73 [] (stM ps ((o, row), gg) j)) g) (pb (grQ tk (pHead tk aq ap)) F ps) := by
  refine ctm_pbQ ?_
  generalize hF' : (fun v ps' => if ps.1 ≤ ps'.1 ∧ ps'.1 ≤ Tn tk ∧ ps'.2 = ps.2 then F v ps' else none : Int32 × List TR → PA β) = F'
  have hK' : ∀ nm ts a j', ps.1 < a → a ≤ Tn tk → 1 ≤ ts.length → jfm true j j' → 0 ≤ nm ∧ nm ≤ 8191 → j'.nn + 100 * (Tn tk - a) + 50 * ts.length ≤ j.nn + 100 * (Tn tk - ps.1) → CTm false em2 tk fo j0 B (g (.int nm) (stM (a, ps.2) ((o, row ++ ts.map tv), gg) j')) (F' (nm, ts) (a, ps.2)) := by
    intro nm ts a j' h1 h2 h3 h4 h5 h6
    rw [← hF']
    dsimp only
    rw [if_pos ⟨Nat.le_of_lt h1, h2, rfl⟩]
    exact hK nm ts a j' h1 h2 h3 h4 h5 h6
  clear hF' hK
  obtain ⟨n, rfl⟩ := suc1 (m := n) (by omega)
  have hP := hP.dn
  obtain ⟨ht, hT, hps, ha, hop, hfr, hS⟩ := id hP
  have hA : ALM = 30000 := rfl
  have e74 : ∀ L : AL, bZ .ne (aCall (aM n) 74 [(aBin oAdd (aF 13) (aK 1))]) L (stM ps ((o, row), gg) j) = some (some (oprB tk ps.2.2.2.1 (ps.1 + 1)), stM ps ((o, row), gg) j) := by
    intro L
    refine bZn_e ?_
    have : aBin oAdd (aF 13) (aK 1) L (stM ps ((o, row), gg) j) = some (some (.int (nI (ps.1 + 1))), stM ps ((o, row), gg) j) := by
      simp only [d10, eq_self, decide_true, decide_false, ti_b, b2i_t, b2i_f, aK, aL, aF, aSz, aBin, aDiv, aB, aAt, aNd, aArgs, aCall, aIf, bCmp, bZ, bAnd, bOr, bNot, bTT, bIf, ab_ok, ab_no, ab_none, ab_ab, ab_ite, aok_ok, aok_none, og_ok, og_none, vbin_i, vb8_i, vput_i, vI_i, cmp_i, hold_eq, hold_ne, hold_lt, hold_ge, hold_gt, hold_le, b2i_0, ss_b, ss_ite, oAdd, oSub, oMul, Option.bind_some, A0of, va_up, List.length_nil, List.length_cons, List.getD_cons_zero, List.getD_cons_succ, List.getD_nil, if_true, if_false, Bool.not_not, Bool.not_true, Bool.not_false, Bool.false_eq_true, reduceIte, Nat.reduceSub, Nat.reduceAdd, Nat.reduceEqDiff, sM_f13, sM_f14, sM_f11, sM_f19, sM_f20, sM_f21, sM_R17, sM_R18, sM_R4, sM_R5, sM_o17, sM_o18, sM_o4, sM_o5, sM_nn, sM_fl, nI_1]
    have h3 := tk_len ht
    rw [aCall_1, this, ab_ok]
    exact m_isOperatorAt (by omega) ht hT hps (by omega)
  rw [eM_head, zM_head, amth_run, List.length_nil, if_pos rfl, fin_ok, run_seq, run_set, aF_e, kS_ok, sM_f13, run_seq, run_set, aCall_1, aK_e, ab_ok, m_is (by omega) ht hT ha, kS_ok, run_seq, run_if]
  have ec : ∀ L : AL, L 2 = .int (b2i (sg tk ps.1 22)) → (bOr (bZ .ne (aL 2)) (bAnd (bAnd (bZ .ne (aCall (aM n) 20 [])) (bNot (bZ .ne (aCall (aM n) 21 [])))) (bNot (bZ .ne (aCall (aM n) 74 [(aBin oAdd (aF 13) (aK 1))]))))) L (stM ps ((o, row), gg) j) = some (some (sg tk ps.1 22 || (nmB tk ps.1 && !oprB tk ps.2.2.2.1 ps.1 && !oprB tk ps.2.2.2.1 (ps.1 + 1))), stM ps ((o, row), gg) j) := by
    intro L l2
    exact bOr_e (bZn_e (by rw [aL_e, l2])) (bAnd_e (bAnd_e (mN n (by omega) ht hT ha) (bNot_e (mO n (by omega) ht hT ha hps))) (bNot_e (e74 L)))
  rw [ec _ rfl]
  cases hc : (sg tk ps.1 22 || (nmB tk ps.1 && !oprB tk ps.2.2.2.1 ps.1 && !oprB tk ps.2.2.2.1 (ps.1 + 1))) with
  | true =>
    rw [kI_t, pb_at (p' := pb (idV tk false) (fun v => pb ap fun t => pb (pArgs tk ap LF) fun l => pret (v.1, t :: l))) (ps' := ps) (head_id hc), pb_pb, run_seq, run_set, aCall_1, aK_e, ab_ok, kS_ab, ab_ab]
    have hcn : (sg tk ps.1 22 || nmB tk ps.1) = true := by
      cases h22 : sg tk ps.1 22 with
      | true => rfl
      | false =>
        rw [h22, Bool.false_or, Bool.and_eq_true, Bool.and_eq_true] at hc
        rw [hc.1.1]
        rfl
    refine ctm_id (q := false) (by omega) hP hj fun v a hid h1 h2 h3 h4 h5 => ?_
    have h0 := idV_nn ht hid hcn
    rw [run_seq, run_ab (nrt_do _ _ _ _ _ _)]
    have hjv : jfm true j (apF j 19 v.2) := (jfm.rf (W := true) j).p19 v.2
    have hP1 : PRM tk (a, ps.2) ((o, row), gg) (apF j 19 v.2) (n + 1) := hP.at (Nat.le_of_lt h1) h2 hjv (by show fSm _ + j.nn + _ + _ ≤ _; omega)
    have e1 : pb (pb ap fun t => pb (pArgs tk ap LF) fun l => pret (v.1, t :: l)) F' = pb ap fun t => pb (pArgs tk ap LF) fun l => (fun l => F' (v.1, l)) (t :: l) := by
      rw [pb_pb]
      congr 1
      funext t
      rw [pb_pb]
      rfl
    rw [e1]
    refine m_argsD hap hq (by omega) LN LF row (a, ps.2) (apF j 19 v.2) (fun l => F' (v.1, l)) (by decide) hP1 h4 fun ts a' j' r1 r2 r3 r4 r5 r6 => ?_
    dsimp only at r1 r5 r6 ⊢
    rw [run_ret, aL_e, ab_ok]
    exact hK' v.1 ts a' j' (by omega) r2 r3 (hjv.trans r4) ⟨h0, h3⟩ (by have : (apF j 19 v.2).nn = j.nn := rfl; omega)
  | false =>
    rw [kI_f, run_skip]
    generalize hL : va_up (va_up (A0of true []) 1 (.int (nI ps.1))) 2 (.int (b2i (sg tk ps.1 22))) = L
    have l1 : L 1 = .int (nI ps.1) := by rw [← hL]; rfl
    have ep : pHead tk aq ap ps = pb (fun ps => if sg tk ps.1 33 = true then pTrg tk aq ap ps else some (.inl (none, ps))) (fun o => match o with
      | some (n, t) => pb (pArgs tk ap LF) fun l => pret (n, t :: l)
      | none => pb ap fun one ps2 => if oprB tk ps2.2.2.2.1 ps2.1 = true then pb ap (fun two => pret (vAt tk ps2.1, [tPair true one two (nI ps.1)])) (ps2.1 + 1, ps2.2) else pflt 1 ps2) ps := by
      unfold pHead
      rw [hc, if_neg (by decide)]
      rfl
    rw [pb_at (p' := pb (fun ps => if sg tk ps.1 33 = true then pTrg tk aq ap ps else some (.inl (none, ps))) (fun o => match o with
      | some (n, t) => pb (pArgs tk ap LF) fun l => pret (n, t :: l)
      | none => pb ap fun one ps2 => if oprB tk ps2.2.2.2.1 ps2.1 = true then pb ap (fun two => pret (vAt tk ps2.1, [tPair true one two (nI ps.1)])) (ps2.1 + 1, ps2.2) else pflt 1 ps2)) (ps' := ps) ep, pb_pb]
    have e33 := mS (LV := L) (ps := ps) (f := ((o, row), gg)) n (by omega) ht hT ha 33
    -- no brackets
    have hB : ∀ j2, jfm true j j2 → j2.nn = j.nn → CTm false em2 tk fo j0 B (ab (run [zSeq (zIf (bZ .ne (aL 3)) (zSeq (zEx (aCall (aM n) 15 [])) (zOpF oAdd 13 (aK 1))) zSkip) (zSeq (zSet 4 (aCall (aM n) 25 [])) (zSeq (zSet 5 (aCall (aM n) 76 [])) (zSeq (zSet 6 (aCall (aM n) 25 [])) (zSeq (zAdd 17 (aCall (aM n) 50 [(aK 33), (aL 4), (aL 6), (aL 1)])) (zSeq (zIf (bZ .ne (aL 3)) (zSeq (zEx (aCall (aM n) 33 [(aK 34)])) (zSeq (zOpF oSub 14 (aK 1)) (zWh LN (bZ .ne (aCall (aM n) 52 [])) (zAdd 17 (aCall (aM n) 25 [])) zSkip))) zSkip) (zRet (aL 5)))))))] nk (va_up L 3 (.int 0)) (stM ps ((o, row), gg) j2)) g)
      (pb (pb ap fun one ps2 => if oprB tk ps2.2.2.2.1 ps2.1 = true then pb ap (fun two => pret (vAt tk ps2.1, [tPair true one two (nI ps.1)])) (ps2.1 + 1, ps2.2) else pflt 1 ps2) F' ps) := by
      intro j2 h1 h2
      rw [run_seq, run_if, bZn_e (x := false) (by rw [aL_e]; rfl), kI_f, run_skip]
      refine m_headB hap hq (by omega) (hP.mkf h1 (by rw [h2]; exact hS)) (hj.trans h1.wk) (by simpa [va_up] using l1) rfl fun nm ts a j' r1 r2 r3 r4 r5 r6 => ?_
      exact hK' nm ts a j' r1 r2 r3 (h1.trans r4) r5 (by omega)
    cases h33 : sg tk ps.1 33 with
    | false =>
      rw [h33] at e33
      rw [run_seq, run_set, aIf_f (A' := stM ps ((o, row), gg) j) (by unfold bAnd; rw [e33]; rfl), aK_e, kS_ok, pb_val (v := none) (ps' := ps) (by simp only [h33, Bool.false_eq_true, if_false])]
      exact hB j (jfm.rf j) rfl
    | true =>
      have hlt : ps.1 < Tn tk := sg_lt h33
      rw [h33] at e33
      rw [pb_at (p' := pTrg tk aq ap) (ps' := ps) (by simp only [h33, if_true])]
      obtain ⟨n, rfl⟩ := suc1 (m := n) (by omega)
      rcases m_isBr haq hqa hff hno (by omega) hP.dn hlt with hnone | ⟨j2, e2, hj2, hn2⟩
      · have : pTrg tk aq ap ps = none := by unfold pTrg; rw [hnone]
        unfold pb
        rw [this]
        exact trivial
      · have e75 : ∀ i : Int32, brR (pTry tk aq ps) = i → (i = 0 ∨ i = 1) → aIf (bAnd (bZ .ne (aCall (aM (n + 1)) 6 [(aK 33)])) (bZ .ne (aCall (aM (n + 1)) 75 []))) (aK 1) (aK 0) L (stM ps ((o, row), gg) j) = some (some (.int i), stM ps ((o, row), gg) j2) := by
          intro i hi h01
          rw [hi] at e2
          have : bAnd (bZ .ne (aCall (aM (n + 1)) 6 [(aK 33)])) (bZ .ne (aCall (aM (n + 1)) 75 [])) L (stM ps ((o, row), gg) j) = some (some (decide (i = 1)), stM ps ((o, row), gg) j2) := by
            unfold bAnd
            rw [e33, ab_ok, if_pos rfl]
            unfold bZ
            rw [aCall_nil, e2, ab_ok]
            rcases h01 with h | h <;> rw [h] <;> rfl
          rcases h01 with h | h
          · rw [h] at this ⊢
            rw [aIf_f this, aK_e]
          · rw [h] at this ⊢
            rw [aIf_t this, aK_e]
        cases ht2 : pTry tk aq ps with
        | none =>
          have : pTrg tk aq ap ps = none := by unfold pTrg; rw [ht2]
          unfold pb
          rw [this]
          exact trivial
        | some z =>
          match z, ht2 with
          | .inr e, ht2 =>
            rw [run_seq, run_set, e75 0 (by rw [ht2]; rfl) (Or.inl rfl), kS_ok]
            rcases htf ps e h33 ht2 with hf | hf
            · have h1 : pTrg tk aq ap ps = some (.inr e) := by unfold pTrg; rw [ht2]; dsimp only; rw [hf]
              rw [pb_err h1]
              have := hB j2 hj2 hn2
              rw [pb_err (pb_err hf)] at this
              exact this
            · have h1 : pTrg tk aq ap ps = none := by unfold pTrg; rw [ht2]; dsimp only; rw [hf]
              unfold pb
              rw [h1]
              exact trivial
          | .inl (none, ps'), ht2 =>
            have hpe := try_none ht2
            subst hpe
            rw [run_seq, run_set, e75 0 (by rw [ht2]; rfl) (Or.inl rfl), kS_ok, pb_val (v := none) (ps' := ps') (by unfold pTrg; rw [ht2])]
            exact hB j2 hj2 hn2
          | .inl (some (nm, t), ps'), ht2 =>
            obtain ⟨ho, one, q2, two, q4, t1, t2, t3, t4, t5, t6, t7⟩ := try_some ht2
            subst t5 t6 t7
            rw [run_seq, run_set, e75 1 (by rw [ht2]; rfl) (Or.inr rfl), kS_ok, pb_val (by unfold pTrg; rw [ht2])]
            have hP2 : PRM tk ps ((o, row), gg) j2 (n + 1 + 1) := hP.mkf hj2 (by rw [hn2]; exact hS)
            have hP3 := hP2.op ho hlt
            rw [run_seq, run_if, bZn_e (x := true) (by rw [aL_e]; rfl), kI_t, run_seq, run_ex, aCall_nil, m_enter (by omega) hop, if_pos ho, kE_ok, run_opF, aK_e, kOF_ok, sM_f13, show oAdd (nI (ps.1, ps.2.1 + 1, ps.2.2).1) 1 = nI (ps.1 + 1) from nI_1 _, sM_p13]
            have hS3 := hP3.2.2.2.2.2.2
            have hc1 := haq (n + 1) (ps.1 + 1, ps.2.1 + 1, ps.2.2) ((o, row), gg) j2 (j2.nn + 100 * (Tn tk - (ps.1 + 1)) - 60) (by omega) hP3.dn (by dsimp only; omega)
            rw [t1] at hc1
            obtain ⟨j3, c1, c2, c3⟩ := hc1
            obtain ⟨g1, g2, g3⟩ := hqa _ one q2 t1
            obtain ⟨a2, s2⟩ := q2
            dsimp only at g1 g2 g3 c3 t2 t3
            subst g3
            have hP4 : PRM tk (a2, ps.2.1 + 1, ps.2.2) ((o, row), gg) j3 (n + 1 + 1) := hP3.at (Nat.le_of_lt g1) g2 c2 (by omega)
            have hlt2 : a2 < Tn tk := opr_lt t2
            have hP5 := hP4.one hlt2
            have hS5 := hP5.2.2.2.2.2.2
            have hc2 := haq (n + 1) (a2 + 1, ps.2.1 + 1, ps.2.2) ((o, row), gg) j3 (j3.nn + 100 * (Tn tk - (a2 + 1)) - 60) (by omega) hP5.dn (by dsimp only; omega)
            rw [t3] at hc2
            obtain ⟨j4, d1, d2, d3⟩ := hc2
            obtain ⟨g4, g5, g6⟩ := hqa _ two q4 t3
            obtain ⟨a4, s4⟩ := q4
            dsimp only at g4 g5 g6 d3 t4
            subst g6
            have hlt4 : a4 < Tn tk := sg_lt t4
            have hlen : o + row.length < ALM := by simp only [fSm] at hS; omega
            have hl : fSm ((o, row ++ [tv (tPair true one two (nI ps.1))]), gg) = fSm ((o, row), gg) + 1 := by simp [fSm]; omega
            have hS4 := hP4.2.2.2.2.2.2
            dsimp only at hS3 hS4 hS5
            have ecp : ∀ L : AL, L 4 = tv one → L 6 = tv two → L 1 = .int (nI ps.1) → aCall (aM (n + 1)) 50 [(aK 33), (aL 4), (aL 6), (aL 1)] L (stM (a4, ps.2.1 + 1, ps.2.2) ((o, row), gg) j4) = some (some (tv (tPair true one two (nI ps.1))), stM (a4, ps.2.1 + 1, ps.2.2) ((o, row), gg) (mkN j4 5)) := by
              intro L q4 q6 q1
              have := m_couple (m := n + 1) (ps := (a4, ps.2.1 + 1, ps.2.2)) (f := ((o, row), gg)) (j := j4) (q := true) (one := one) (two := two) (p := nI ps.1) (by omega) (by omega)
              simp only [aCall, aArgs, aK_e, aL_e, ab_ok, q4, q6, q1]
              exact this
            have hjj : jfm true j (mkN j4 5) := (hj2.trans (c2.trans d2)).mk 5
            have hP6 : PRM tk (a4 + 1, ps.2) ((o, row ++ [tv (tPair true one two (nI ps.1))]), gg) (mkN j4 5) (n + 1 + 1) := hP.at (by omega) hlt4 hjj (by rw [hl, mkN_nn]; omega)
            rw [run_seq, run_set, aCall_nil, c1, kS_ok, run_seq, run_set, aCall_nil, m_operator (by omega) hP4, if_pos t2, kS_ok, run_seq, run_set, aCall_nil, d1, kS_ok, run_seq, run_add, ecp _ rfl rfl (by simpa [va_up] using l1), kAD_ok, ma17 hlen, og_ok, run_seq, run_if, bZn_e (x := true) (by rw [aL_e]; rfl), kI_t, run_seq, run_ex, aCall_1, aK_e, ab_ok, m_need (by omega) ht (hT.jfm hjj) (Nat.le_of_lt hlt4), if_pos t4, kE_ok, run_seq, run_opF, aK_e, kOF_ok, sM_f14, show oSub (nI (ps.2.1 + 1)) 1 = nI ps.2.1 from nI_pred _, sM_p14, run_ab (nrt_wh _ _ _ _ _ _)]
            rw [show ((a4, ps.2.1 + 1, ps.2.2).1 + 1, (a4, ps.2.1 + 1, ps.2.2).2.1 - 1, (a4, ps.2.1 + 1, ps.2.2).2.2) = ((a4 + 1, ps.2) : PS) from rfl]
            have e1 : ∀ v : Int32, pb (pb (pArgs tk ap LF) fun l => pret (v, tPair true one two (nI ps.1) :: l)) F' = pb (pArgs tk ap LF) fun l => F' (v, tPair true one two (nI ps.1) :: l) := by
              intro v
              rw [pb_pb]
              rfl
            dsimp only
            rw [e1]
            have hb' := t2
            unfold oprB at hb'
            rw [Bool.and_eq_true] at hb'
            have hnv := (nm_val ht hb'.1).2
            refine m_argsW hap hq (by omega) 99999 LF (row ++ [tv (tPair true one two (nI ps.1))]) (a4 + 1, ps.2) (mkN j4 5) _ (by decide) hP6 (hj.trans hjj.wk) fun ts a' j' r1 r2 r3 r4 r5 => ?_
            dsimp only at r1 r4 r5 ⊢
            rw [run_ret, aL_e, ab_ok]
            have := hK' (vAt tk a2) (tPair true one two (nI ps.1) :: ts) a' j' (by omega) r2 (by simp) (hjj.trans r3) hnv (by rw [mkN_nn] at r4; rw [List.length_cons]; omega)
            simpa [va_up] using this
end MHE
