/-! M: val, local, abstype -/
section MVA
variable {α β : Type} {W : Bool} {em : α → V} {em2 : β → V} {tk : TK} {f f1 f' fo : FM} {j j1 j' j0 : AS} {B B1 a : Nat} {r : Option (Option V × AS)} {ps ps' : PS} {m n k k' : Nat} {LV : AL} {zs : List ZX} {ty pat E D inf : PA TR} {c b : Nat}
theorem m_recs (hn : 2 ≤ n) (N : Nat) : ∀ (M : Nat) (q : Bool) (ps : PS) (LV : AL) (K B0 C0 : KT) (F : Bool → PA α), M ≤ N → PRM tk ps f j (n + 1) → LV 4 = .int (b2i q) →
    (∀ q' ps' LV', PGe tk ps ps' → PRM tk ps' f j (n + 1) → LV' 4 = .int (b2i q') → (∀ k, k ≠ 4 → LV' k = LV k) → CTm W em tk fo j0 B (K LV' (stM ps' f j)) (F q' ps')) →
    CTm W em tk fo j0 B (rn (zWh (N + 1) (bZ .ne (aCall (aM n) 9 [(aK 26)])) (zSet 4 (aK 1)) zSkip LV (stM ps f j)) K B0 C0) (pb (pRecs tk M q) F ps) := by
  induction N with
  | zero =>
    intro M q ps LV K B0 C0 F hM
    have : M = 0 := by omega
    subst this
    intros
    exact trivial
  | succ N ih =>
    intro M q ps LV K B0 C0 F hM hP l4 hK
    cases M with
    | zero => exact trivial
    | succ M =>
      rw [rn_wh, m_eatB hn hP, ab_ok]
      cases hs : sg tk ps.1 26 with
      | false =>
        rw [if_neg (by decide), if_neg (by decide), pb_val (v := q) (ps' := ps) (by simp only [pRecs, hs, Bool.false_eq_true, if_false])]
        exact hK q ps LV (PGe.rf hP.2.2.1 hP.2.2.2.1) hP l4 (fun _ _ => rfl)
      | true =>
        have hlt : ps.1 < Tn tk := sg_lt hs
        rw [if_pos rfl, if_pos rfl, pb_at (p' := pRecs tk M true) (ps' := (ps.1 + 1, ps.2)) (by simp only [pRecs, hs, if_true]), rn_set, aK_e, ab_ok, rn_skip]
        refine ih M true (ps.1 + 1, ps.2) _ K B0 C0 F (by omega) (hP.one hlt) rfl fun q' ps' LV' r1 r2 r3 r4 => ?_
        exact hK q' ps' LV' (PGe.trans (PG.one hP.2.2.1 hlt).e r1) r2 r3 (fun k hk => (r4 k hk).trans (va_up_ne _ _ hk))
def pValK (tk : TK) (pat E : PA TR) (M : Nat) (q : Bool) : PA (List TR) := fun ps => pb pat (fun p => pNeed tk 45 (pb E fun e ps' =>
  if sg tk ps'.1 2 = true then pb (pVals tk pat E M q) (fun l => pret ((71, tv p, tv e, .int (b2i q), nI ps.1) :: l)) (ps'.1 + 1, ps'.2) else some (.inl ([(71, tv p, tv e, .int (b2i q), nI ps.1)], ps')))) ps
abbrev zVaB (n : Nat) : ZX := (zSeq (zWh LN (bZ .ne (aCall (aM n) 9 [(aK 26)])) (zSet 4 (aK 1)) zSkip) (zSeq (zSet 5 (aF 13)) (zSeq (zSet 6 (aCall (aM n) 18 [])) (zSeq (zEx (aCall (aM n) 33 [(aK 45)])) (zAdd 17 (aCall (aM n) 16 [(aK 71), (aL 6), (aCall (aM n) 12 []), (aL 4), (aL 5)]))))))
theorem m_vals {o : Nat} {base : List V} {g : Nat × List V} {w1 w2 w3 : V} (hpg : PGr tk pat) (hpt : CoP false tk c 30 18 [] pat) (hEg : PGr tk E) (hE : CoM false tv tk c 30 12 [] E) (hn : max c 5 ≤ n) (N : Nat) :
    ∀ (M : Nat) (q : Bool) (don : List TR) (ps : PS) (j j0 : AS) (LV : AL) (K B0 C0 : KT) (B1 B : Nat) (F : List TR → PA α), M ≤ N → PRM tk ps ((o, base ++ don.map tv), g) j (n + 1) → jfm false j0 j → LV 4 = .int (b2i q) → LV 1 = w1 → LV 2 = w2 → LV 3 = w3 → j.nn + 100 * (Tn tk - ps.1) ≤ B1 →
    (∀ ts ps' j' LV', PG tk ps ps' → 1 ≤ ts.length → jfm false j0 j' → j'.nn + 100 * (Tn tk - ps'.1) + 60 * ts.length ≤ B1 → fSm ((o, base ++ (don ++ ts).map tv), g) + j'.nn + 8 * (n + 1) + 100 * (Tn tk - ps'.1) ≤ 29000 → LV' 1 = w1 → LV' 2 = w2 → LV' 3 = w3 → CTm false em tk fo j0 B (K LV' (stM ps' ((o, base ++ (don ++ ts).map tv), g) j')) (F ts ps')) →
    CTm false em tk fo j0 B (rn (zDo N (zVaB n) (bZ .ne (aCall (aM n) 9 [(aK 2)])) LV (stM ps ((o, base ++ don.map tv), g) j)) K B0 C0) (pb (pVals tk pat E M q) F ps) := by
  induction N with
  | zero =>
    intro M q don ps j j0 LV K B0 C0 B1 B F hM
    have : M = 0 := by omega
    subst this
    intros
    exact trivial
  | succ N ih =>
    intro M q don ps j j0 LV K B0 C0 B1 B F hM hP hj l4 l1 l2 l3 hB hK
    cases M with
    | zero => exact trivial
    | succ M =>
      have hA : ALM = 30000 := rfl
      rw [rn_do, rn_seq, show pVals tk pat E (M + 1) q = pb (pRecs tk LF q) (pValK tk pat E M) from rfl, pb_pb, show LN = 99999 + 1 from rfl]
      refine m_recs (by omega) 99999 LF q ps LV _ _ _ _ (by decide) hP l4 fun q1 ps1 L1 g1 hP1 k4 k5 => ?_
      obtain ⟨ht, hT, hps, ha, hop, hfr, hS⟩ := id hP1
      have g11 := g1.1
      have hlen : o + (base ++ don.map tv).length < ALM := by simp only [fSm] at hS; omega
      rw [rn_seq, rn_set, aF_e, ab_ok, sM_f13, rn_seq, rn_set, aCall_nil]
      rw [pb_at (p := pValK tk pat E M q1) (p' := pb pat (fun p => pNeed tk 45 (pb E fun e ps' =>
        if sg tk ps'.1 2 = true then pb (pVals tk pat E M q1) (fun l => pret ((71, tv p, tv e, .int (b2i q1), nI ps1.1) :: l)) (ps'.1 + 1, ps'.2) else some (.inl ([(71, tv p, tv e, .int (b2i q1), nI ps1.1)], ps'))))) (ps' := ps1) rfl, pb_pb]
      refine ctm_stP hpt hpg (by omega) (by omega) hP1 hj (fun p ps2 j2 g2 hP2 hj2 hB2 => ?_) (fun v ps3 j3 c1 c2 c3 c4 c5 => ?_)
      · rw [rn_seq, rn_ex, aCall_1, aK_e, ab_ok, pNeed_pb]
        refine ctm_need (by omega) hP2 hj2 fun hl2 => ?_
        rw [pb_pb, rn_add]
        simp only [aCall_5, aCall_nil, aK_e, aL_e, ab_ok, ab_ab]
        refine ctm_st hE hEg (by omega) (by omega) (hP2.one hl2) hj2 fun e ps3 j3 g3 hP3 hj3 hB3 => ?_
        dsimp only at hB3
        have hS3 := hP3.2.2.2.2.2.2
        have emk := m_make (m := n) (ps := ps3) (f := ((o, base ++ don.map tv), g)) (j := j3) (k := 71) (p := nI ps1.1) (a := tv p) (b := tv e) (c := .int (b2i q1)) (by omega) (by omega) (by decide) rfl rfl rfl
        have k4' : va_up (va_up L1 5 (.int (nI ps1.1))) 6 (tv p) 4 = .int (b2i q1) := by simpa [va_up] using k4
        have k5' : va_up (va_up L1 5 (.int (nI ps1.1))) 6 (tv p) 5 = .int (nI ps1.1) := rfl
        have k6' : va_up (va_up L1 5 (.int (nI ps1.1))) 6 (tv p) 6 = tv p := rfl
        simp only [ab_ok, k4', k5', k6', emk]
        generalize hz : ((71, tv p, tv e, .int (b2i q1), nI ps1.1) : TR) = z
        have hl : fSm ((o, base ++ (don ++ [z]).map tv), g) = fSm ((o, base ++ don.map tv), g) + 1 := by simp [fSm]; omega
        have hP4 : PRM tk ps3 ((o, base ++ (don ++ [z]).map tv), g) (mkN j3 1) (n + 1) := hP3.mkf (W := false) ((jfm.rf j3).mk _) (by rw [hl, mkN_nn]; omega)
        rw [ma17 hlen, og_ok, show base ++ don.map tv ++ [tv z] = base ++ (don ++ [z]).map tv by simp, m_eatB (by omega) hP4, ab_ok]
        have gg : PG tk ps ps3 := PG.trans (PGe.trans (PGe.trans g1 g2.e) (PG.one g2.2.2.2.2 hl2).e) g3
        have m1 : ∀ k, k < 4 → va_up (va_up L1 5 (.int (nI ps1.1))) 6 (tv p) k = LV k := fun k hk => by rw [va_up_ne _ _ (by omega), va_up_ne _ _ (by omega), k5 k (by omega)]
        cases hc : sg tk ps3.1 2 with
        | true =>
          have hlt : ps3.1 < Tn tk := sg_lt hc
          rw [pb_at (p' := pb (pVals tk pat E M q1) fun l => pret (z :: l)) (ps' := (ps3.1 + 1, ps3.2)) (by simp only [hc, if_true]), pb_pb, if_pos rfl, if_pos rfl]
          refine ih M q1 (don ++ [z]) (ps3.1 + 1, ps3.2) (mkN j3 1) j0 _ K B0 C0 (B1 - 60) B _ (by omega) (hP4.one hlt) (hj3.mk _) k4' ((m1 1 (by decide)).trans l1) ((m1 2 (by decide)).trans l2) ((m1 3 (by decide)).trans l3) (by rw [mkN_nn]; dsimp only; omega) fun ts ps'' j'' LV'' r1 r2 r3 r4 r5 r6 r7 r8 => ?_
          have := hK (z :: ts) ps'' j'' LV'' (PG.trans (PGe.trans gg.e (PG.one gg.2.2.2.2 hlt).e) r1) (by simp) r3 (by rw [List.length_cons, Nat.mul_add, Nat.mul_one]; omega) (by simpa using r5) r6 r7 r8
          simpa [pret_pb] using this
        | false =>
          rw [pb_val (v := [z]) (ps' := ps3) (by simp only [hc, Bool.false_eq_true, if_false]), if_neg (by decide), if_neg (by decide)]
          exact hK [z] ps3 (mkN j3 1) _ gg (by simp) (hj3.mk _) (by rw [mkN_nn]; simp; omega) (by rw [hl, mkN_nn]; omega) ((m1 1 (by decide)).trans l1) ((m1 2 (by decide)).trans l2) ((m1 3 (by decide)).trans l3)
      · rw [rn_seq, rn_ex, aCall_1, aK_e, ab_ok, m_needF (by omega) ht c2 c4 (by decide), ab_no]
        exact ctm_flt c3
theorem m_val (hpg : PGr tk pat) (hpt : CoP false tk c 30 18 [] pat) (hEg : PGr tk E) (hE : CoM false tv tk c 30 12 [] E) : CoM false tv tk (max c 5 + 1) 50 69 [.int (nI b)] (pValD tk pat E b) := by
  intro k ps f j B hk hP hB
  obtain ⟨n, rfl⟩ := suc1 (m := k) (by omega)
  obtain ⟨⟨o, base⟩, g⟩ := f
  obtain ⟨ht, hT, hps, ha, hop, hfr, hS⟩ := id hP
  have hA : ALM = 30000 := rfl
  have hil0 : fSm ((o, base), g) = o + base.length + g.1 + g.2.length := rfl
  unfold pValD
  rw [eM_val, zM_val, amth_run, if_pos (show [Term.int (nI b)].length = 1 from rfl), fin_ok, run_seq, run_set, aCall_1, aK_e, ab_ok, kS_ab]
  refine ctm_ste (m_typeVariables (q := true)) pgh_grD (by omega) hP (jfm.rf j) fun vs ps1 j1 g1 hP1 hj1 hB1 => ?_
  rw [run_seq, run_set, aSz_e, kS_ok, sM_R17, sM_o17, run_seq, run_set, aK_e, kS_ok, run_seq, run_rn]
  have hP1' : PRM tk ps1 ((o, base ++ ([] : List TR).map tv), g) j1 (n + 1) := by simpa using hP1
  have := m_vals (em := tv) (fo := ((o, base), g)) (n := n) (o := o) (base := base) (g := g) (w1 := .int (nI b)) (w2 := tLi vs) (w3 := .int (nI (o + base.length))) hpg hpt hEg hE (by omega) LN LF false [] ps1 j1 j (va_up (va_up (va_up (A0of true [.int (nI b)]) 2 (tLi vs)) 3 (.int (nI (o + base.length)))) 4 (.int 0)) (run [zRet (aCall (aM n) 16 [(aK 70), (aL 2), (aCall (aM n) 42 [(aL 3)]), (aK (-1)), (aL 1)])] nk) nk nk (j1.nn + 100 * (Tn tk - ps1.1)) B (fun l => pret (70, tLi vs, tLi l, no, nI b)) (by decide) hP1' hj1 rfl rfl rfl rfl (Nat.le_refl _) fun ts ps' j' LV' r1 r2 r3 r4 r5 r6 r7 r8 => ?_
  · simpa using this
  · rw [List.nil_append, fSm_push, List.length_map, hil0] at r5
    rw [List.nil_append]
    have el := m_list (m := n) (ps := ps') (j := j') (by omega) (o := o) (base := base) (items := ts) (g := g) (by omega) (by omega) (by omega)
    have emk := m_make (m := n) (ps := ps') (f := ((o, base), g)) (j := mkN j' ts.length) (k := 70) (p := nI b) (a := tLi vs) (b := tLi ts) (c := .int (-1)) (by omega) (by rw [mkN_nn]; omega) (by decide) (okLi vs) (okLi ts) rfl
    rw [run_ret]
    simp only [aCall_5, aCall_1, aK_e, aL_e, ab_ok, r6, r7, r8, el, emk]
    exact ctm_ret (v := (70, tLi vs, tLi ts, no, nI b)) ((r3.mk _).mk _) (by simp only [mkN_nn]; omega)
theorem m_local (hDg : PGh tk D) (hD : CoMD tv tk c 5 [.int 0] D) (k : Nat) (f : FM) (j : AS) (B : Nat) (hk : max c 5 + 1 ≤ k) (hP : PRM tk ps f j k) (hB : j.nn + 100 * (Tn tk - ps.1) ≤ B + 90) (hlt0 : ps.1 < Tn tk) :
    CTm false tv tk f j B (aM k 78 [.int (nI b)] (stM (ps.1 + 1, ps.2) f j)) (pEnter (pAdv tk (pLoc tk D b)) ps) := by
  obtain ⟨n, rfl⟩ := suc1 (m := k) (by omega)
  obtain ⟨ht, hT, hps, ha, hop0, hfr, hS⟩ := id hP
  have hA : ALM = 30000 := rfl
  rw [eM_local, zM_local, amth_run, if_pos (show [Term.int (nI b)].length = 1 from rfl), fin_ok, run_seq, run_opF, aK_e, kOF_ok, sM_f13, show oSub (nI (ps.1 + 1)) 1 = nI ps.1 from nI_pred _, sM_p13, run_seq, run_ex, aCall_nil, kE_ab]
  show CTm _ _ _ _ _ _ (ab (aM n 15 [] (stM ps f j)) _) _
  refine ctm_enter (by omega) hP (jfm.rf j) fun hop => ?_
  refine ctm_adv fun hlt => ?_
  have hlt : ps.1 < Tn tk := hlt
  have hP1 := hP.op hop hlt
  unfold pLoc
  rw [run_seq, run_opF, aK_e, kOF_ok, sM_f13, show oAdd (nI ps.1) 1 = nI (ps.1 + 1) from nI_1 _, sM_p13, run_seq, run_set, aSz_e, kS_ok, sM_R5, sM_o5, ints_len, chm_len _ _ hps.2.2.1, Nat.zero_add, run_seq, run_set, aCall_1, aK_e, ab_ok, kS_ab]
  refine ctm_std hD hDg (by omega) hP1 (by dsimp only; omega) (jfm.rf j) fun d ps1 j1 g1 hP2 hj1 hB1 => ?_
  dsimp only at hB1
  have g11 := g1.1
  dsimp only at g11
  rw [run_seq, run_ex, aCall_1, aK_e, ab_ok, kE_ab]
  refine ctm_need (by omega) hP2 hj1 fun hl1 => ?_
  have hP3 := hP2.one hl1
  have hq1 := hP2.2.2.1
  have hS2 := hP2.2.2.2.2.2.2
  rw [run_seq, run_set, aSz_e, kS_ok, sM_R5, sM_o5, ints_len, chm_len _ _ hq1.2.2.1, Nat.zero_add, run_seq, run_set, aCall_1, aK_e, ab_ok, kS_ab]
  refine ctm_std hD hDg (by omega) hP3 (by dsimp only; omega) hj1 fun e ps2 j2 g2 hP4 hj2 hB2 => ?_
  dsimp only at hB2
  rw [run_seq, run_ex, aCall_1, aK_e, ab_ok, kE_ab]
  refine ctm_need (by omega) hP4 hj2 fun hl2 => ?_
  have hS4 := hP4.2.2.2.2.2.2
  have o1 := g1.2.2.1
  have o2 := g2.2.2.1
  dsimp only at o1 o2
  have ho : oSub (nI ps2.2.1) 1 = nI (ps2.2.1 - 1) := nI_sub1 (by omega)
  unfold pLeave
  dsimp only
  by_cases h400 : ps2.2.2.2.2.1.length ≤ 400
  · rw [if_pos h400, run_seq, run_opF, aK_e, kOF_ok, sM_f14, ho, sM_p14, run_seq, run_ex, aCall_2, aL_e, ab_ok, aL_e, ab_ok]
    have hf2 := hP2.2.2.2.2.2.1
    have hst := m_settle (m := n) (ps := (ps2.1 + 1, ps2.2.1 - 1, ps2.2.2)) (f := f) (j := j2) (mark := ps.2.2.2.2.1.length) (middle := ps1.2.2.2.2.1.length) (by omega) hP4.2.2.1 h400 (by omega) (by omega) (by simp only [fSm] at hS4; omega)
    show CTm false tv tk f j B (kE _ _ _ (aM n 79 [.int (nI (2 * ps.2.2.2.2.1.length)), .int (nI (2 * ps1.2.2.2.2.1.length))] (stM (ps2.1 + 1, ps2.2.1 - 1, ps2.2.2) f j2))) _
    rw [hst, kE_ok, run_ret]
    have emk := m_make (m := n) (ps := psFx (ps2.1 + 1, ps2.2.1 - 1, ps2.2.2) (fxFg ps.2.2.2.2.1.length ps1.2.2.2.2.1.length (ps2.1 + 1, ps2.2.1 - 1, ps2.2.2).2.2.2)) (f := f) (j := j2) (k := 82) (p := nI b) (a := tv d) (b := tv e) (c := .int (-1)) (by omega) (by omega) (by decide) rfl rfl rfl
    simp only [aCall_5, aK_e, aL_e, ab_ok, A0of, va_up, List.length_nil, List.length_cons, List.getD_cons_zero, List.getD_cons_succ, List.getD_nil, if_true, if_false, Bool.not_not, Bool.not_true, Bool.not_false, Bool.false_eq_true, reduceIte, Nat.reduceSub, Nat.reduceAdd, Nat.reduceEqDiff, emk]
    exact ctm_ret (v := (82, tv d, tv e, no, nI b)) (ps := psFx (ps2.1 + 1, ps2.2.1 - 1, ps2.2.2) (fxFg ps.2.2.2.2.1.length ps1.2.2.2.2.1.length ps2.2.2.2)) (hj2.mk _) (by rw [mkN_nn]; simp only [psFx]; omega)
  · rw [if_neg h400]
    exact trivial
theorem m_abstype (htg : PGr tk ty) (hty : CoM false tv tk c 30 35 [] ty) (hDg : PGh tk D) (hD : CoMD tv tk c 5 [.int 0] D) (k : Nat) (f : FM) (j : AS) (B : Nat) (hk : max c 5 + 4 ≤ k) (hP : PRM tk ps f j k) (hB : j.nn + 100 * (Tn tk - ps.1) ≤ B + 90) (hlt0 : ps.1 < Tn tk) :
    CTm false tv tk f j B (aM k 81 [.int (nI b)] (stM (ps.1 + 1, ps.2) f j)) (pEnter (pAdv tk (pAbs tk ty D b)) ps) := by
  obtain ⟨n, rfl⟩ := suc1 (m := k) (by omega)
  obtain ⟨ht, hT, hps, ha, hop0, hfr, hS⟩ := id hP
  have hA : ALM = 30000 := rfl
  rw [eM_abstype, zM_abstype, amth_run, if_pos (show [Term.int (nI b)].length = 1 from rfl), fin_ok, run_seq, run_opF, aK_e, kOF_ok, sM_f13, show oSub (nI (ps.1 + 1)) 1 = nI ps.1 from nI_pred _, sM_p13, run_seq, run_ex, aCall_nil, kE_ab]
  show CTm _ _ _ _ _ _ (ab (aM n 15 [] (stM ps f j)) _) _
  refine ctm_enter (by omega) hP (jfm.rf j) fun hop => ?_
  refine ctm_adv fun hlt => ?_
  have hlt : ps.1 < Tn tk := hlt
  have hP1 := hP.op hop hlt
  unfold pAbs
  rw [run_seq, run_opF, aK_e, kOF_ok, sM_f13, show oAdd (nI ps.1) 1 = nI (ps.1 + 1) from nI_1 _, sM_p13, run_seq, run_set, aF_e, kS_ok, sM_f13, run_seq, run_set, aCall_1, aK_e, ab_ok, kS_ab]
  refine ctm_ste (m_typeVariables (q := false)) pgh_grD (by omega) hP1 (jfm.rf j) fun vs ps1 j1 g1 hP2 hj1 hB1 => ?_
  dsimp only at hB1
  rw [run_seq, run_set, aCall_nil, kS_ab]
  refine ctm_st m_shT pgg_shT (by omega) (by omega) hP2 hj1 fun nm ps2 j2 g2 hP3 hj2 hB2 => ?_
  rw [run_seq, run_ex, aCall_1, aK_e, ab_ok, kE_ab]
  refine ctm_need (by omega) hP3 hj2 fun hl2 => ?_
  have hP4 := hP3.one hl2
  rw [run_seq, run_set]
  simp only [aCall_3, aL_e, ab_ok, A0of, va_up, List.length_nil, List.length_cons, List.getD_cons_zero, List.getD_cons_succ, List.getD_nil, if_true, if_false, Bool.not_not, Bool.not_true, Bool.not_false, Bool.false_eq_true, reduceIte, Nat.reduceSub, Nat.reduceAdd, Nat.reduceEqDiff, kS_ab]
  refine ctm_st (m_datatypes htg hty) pgg_grE (by omega) (by omega) hP4 hj2 fun l ps4 j4 g4 hP5 hj4 hB4 => ?_
  dsimp only at hB4
  rw [run_seq, run_set, kS_ab]
  refine ctm_wth htg hty (by omega) hP5 hj4 fun w ps5 j5 g5 hP6 hj5 hB5 => ?_
  rw [run_seq, run_ex, aCall_1, aK_e, ab_ok, kE_ab]
  refine ctm_need (by omega) hP6 hj5 fun hl5 => ?_
  have hP7 := hP6.one hl5
  have hS6 := hP6.2.2.2.2.2.2
  rw [run_seq, run_set, aCall_1, aK_e, ab_ok, kS_ab]
  refine ctm_std hD hDg (by omega) hP7 (by dsimp only; omega) hj5 fun d ps6 j6 g6 hP8 hj6 hB6 => ?_
  dsimp only at hB6
  rw [run_seq, run_ex, aCall_1, aK_e, ab_ok, kE_ab]
  refine ctm_need (by omega) hP8 hj6 fun hl6 => ?_
  have hS8 := hP8.2.2.2.2.2.2
  have o1 := g1.2.2.1
  have o2 := g2.2.2.1
  have o4 := g4.2.2.1
  have o5 := g5.2.2.1
  have o6 := g6.2.2.1
  dsimp only at o1 o2 o4 o5 o6
  have ho : oSub (nI ps6.2.1) 1 = nI (ps6.2.1 - 1) := nI_sub1 (by omega)
  unfold pLeave
  dsimp only
  rw [run_seq, run_opF, aK_e, kOF_ok, sM_f14, ho, sM_p14, run_ret]
  have emk := m_make (m := n) (ps := (ps6.1 + 1, ps6.2.1 - 1, ps6.2.2)) (f := f) (j := j6) (k := 78) (p := nI b) (a := tLi l) (b := tLi w) (c := tv d) (by omega) (by omega) (by decide) (okLi l) (okLi w) rfl
  have g61 := g6.1
  have g51 := g5.1
  have g41 := g4.1
  have g21 := g2.1
  dsimp only at g61 g51 g41 g21
  simp only [aCall_5, aK_e, aL_e, ab_ok, A0of, va_up, List.length_nil, List.length_cons, List.getD_cons_zero, List.getD_cons_succ, List.getD_nil, if_true, if_false, Bool.not_not, Bool.not_true, Bool.not_false, Bool.false_eq_true, reduceIte, Nat.reduceSub, Nat.reduceAdd, Nat.reduceEqDiff, emk]
  exact ctm_ret (v := (78, tLi l, tLi w, tv d, nI b)) (ps := (ps6.1 + 1, ps6.2.1 - 1, ps6.2.2)) (hj6.mk _) (by rw [mkN_nn]; dsimp only; omega)
end MVA
