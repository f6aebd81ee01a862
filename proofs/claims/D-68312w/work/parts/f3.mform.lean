/-! M: applications, forms -/
section MFO
variable {α β : Type} {em : α → V} {em2 : β → V} {tk : TK} {f f1 f' fo : FM} {j j1 j' j0 : AS} {B B1 a : Nat} {r : Option (Option V × AS)} {ps ps' : PS} {m n k k' : Nat} {LV : AL} {zs : List ZX}
theorem m_apps {atom : PA TR} {c b : Nat} (hag : PGr tk atom) (hat : CoM false tv tk c 50 53 [] atom) (hn : max c 6 ≤ n) (N : Nat) : ∀ (M : Nat) (t : TR) (ps : PS) (j : AS) (LV : AL) (K B0 C0 : KT) (F : TR → PA α), M ≤ N → PRM tk ps f j n → jfm false j0 j → LV 1 = .int (b2i false) → LV 3 = .int (nI b) → LV 4 = tv t →
    (∀ t' ps' j' LV', PGe tk ps ps' → jfm false j0 j' → j'.nn + 100 * (Tn tk - ps'.1) ≤ j.nn + 100 * (Tn tk - ps.1) → LV' 4 = tv t' → (∀ k, k ≠ 4 → LV' k = LV k) → CTm false em tk fo j0 B (K LV' (stM ps' f j')) (F t' ps')) →
    CTm false em tk fo j0 B (rn (zWh (N + 1) (bAnd (bNot (bZ .ne (aL 1))) (bZ .ne (aCall (aM n) 63 []))) (zSet 4 (aCall (aM n) 16 [(aK 15), (aL 4), (aCall (aM n) 53 []), (aK (-1)), (aL 3)])) zSkip LV (stM ps f j)) K B0 C0) (pb (pApps tk atom b M t) F ps) := by
  induction N with
  | zero =>
    intro M t ps j LV K B0 C0 F hM
    have : M = 0 := by omega
    subst this
    intros
    exact trivial
  | succ N ih =>
    intro M t ps j LV K B0 C0 F hM hP hj l1 l3 l4 hK
    cases M with
    | zero => exact trivial
    | succ M =>
      obtain ⟨ht, hT, hps, ha, hop0, hfr, hS⟩ := id hP
      have hA : ALM = 30000 := rfl
      have ec : (bAnd (bNot (bZ .ne (aL 1))) (bZ .ne (aCall (aM n) 63 []))) LV (stM ps f j) = some (some (begA tk ps), stM ps f j) := by
        rw [bAnd_e (bNot_e (x := false) (bZn_e (x := false) (by rw [aL_e, l1]))) (aCall0_b (m_isAt (by omega) ht hT ha hps))]
        rfl
      rw [rn_wh, ec, ab_ok]
      cases hb : begA tk ps with
      | false =>
        rw [if_neg (by decide), pb_val (v := t) (ps' := ps) (by simp only [pApps, hb, Bool.false_eq_true, if_false])]
        exact hK t ps j LV (PGe.rf hps ha) hj (Nat.le_refl _) l4 (fun _ _ => rfl)
      | true =>
        rw [if_pos rfl, pb_at (p' := pb atom (fun a => pApps tk atom b M (tApp t a (nI b)))) (ps' := ps) (by simp only [pApps, hb, if_true]), pb_pb, rn_set]
        simp only [aCall, aArgs, aK, aL, ab_ok, ab_ab, A0of, va_up, List.length_nil, List.length_cons, List.getD_cons_zero, List.getD_cons_succ, List.getD_nil, if_true, if_false, Bool.not_not, Bool.not_true, Bool.not_false, Bool.false_eq_true, reduceIte, Nat.reduceSub, Nat.reduceAdd, Nat.reduceEqDiff]
        refine ctm_bind (B1 := j.nn + 100 * (Tn tk - ps.1) - 50) hj (hat n ps f j _ (by omega) hP (by omega)) fun x ps1 j1 hp hj1 hB1 => ?_
        have hpg := hag ps x ps1 hps hp
        obtain ⟨c1, c2, c3, c4, c5⟩ := id hpg
        have emk := m_make (m := n) (ps := ps1) (f := f) (j := j1) (k := 15) (p := nI b) (a := tv t) (b := tv x) (c := .int (-1)) (by omega) (by omega) (by decide) rfl rfl rfl
        simp only [ab_ok, l3, l4, emk, rn_skip]
        refine ih M (tApp t x (nI b)) ps1 (mkN j1 1) _ K B0 C0 F (by omega) (hP.nx hpg ((hj.l hj1).mk _) (by rw [mkN_nn]; omega)) (hj1.mk _) (by simpa [va_up] using l1) (by simpa [va_up] using l3) rfl fun t' ps' j' LV' r1 r2 r3 r4 r5 => ?_
        rw [mkN_nn] at r3
        exact hK t' ps' j' LV' (PGe.trans hpg.e r1) r2 (by omega) r4 (fun k hk => (r5 k hk).trans (va_up_ne _ _ hk))
theorem opd_exp {atom : PA TR} {c : Nat} (hag : PGr tk atom) (hat : CoM false tv tk c 50 53 [] atom) (hn : max c 6 ≤ n) : OpdM false tk n false (pApp tk atom) := by
  intro α em fo f B ps j j0 LV K B0 C0 F hP hj l1 l3 hK
  have hS := hP.2.2.2.2.2.2
  have hps := hP.2.2.1
  refine ctm_pbE (F' := fun v ps' => @ite _ (PG tk ps ps') (Classical.propDecidable _) (F v ps') none) (fun v ps' h => if_pos h) (fun v ps' h => if_neg h) ?_
  have e1 : ∀ A : AS, bZ .ne (aL 1) LV A = some (some false, A) := fun A => bZn_e (x := false) (by rw [aL_e, l1])
  rw [rn_set]
  unfold aIf
  rw [e1, ab_ok, if_neg (by decide), aCall_nil]
  rw [pb_at (p := fun ps => pb atom (fun t => pApps tk atom ps.1 LF t) ps) (p' := pb atom (fun t => pApps tk atom ps.1 LF t)) (ps' := ps) rfl, pb_pb]
  refine ctm_bind (B1 := j.nn + 100 * (Tn tk - ps.1) - 50) hj (hat n ps f j _ (by omega) hP (by omega)) fun t ps1 j1 hp hj1 hB1 => ?_
  have hpg := hag ps t ps1 hps hp
  obtain ⟨c1, c2, c3, c4, c5⟩ := id hpg
  rw [show LN = 99999 + 1 from rfl]
  refine m_apps (b := ps.1) hag hat hn 99999 LF t ps1 j1 _ K B0 C0 _ (by decide) (hP.nx hpg (hj.l hj1) (by omega)) hj1 (by simpa [va_up] using l1) (by simpa [va_up] using l3) rfl fun t' ps' j' LV' r1 r2 r3 r4 r5 => ?_
  have gg : PG tk ps ps' := PG.trans' hpg r1
  simp only [gg, if_true]
  exact hK t' ps' j' LV' gg r2 (by omega) r4 (fun k hk => (r5 k hk).trans (va_up_ne _ _ hk))
theorem m_form {pat E : PA TR} {c : Nat} (hEg : PGr tk E) (hE : CoM false tv tk c 30 12 [] E) (hM : CoM false tLi tk c 40 17 [] (pMch tk pat E)) (hf : fmB tk ps.1 = true) (k : Nat) (f : FM) (j : AS) (B : Nat) (hk : max c 6 + 1 ≤ k) (hP : PRM tk ps f j k) (hB : j.nn + 100 * (Tn tk - ps.1) ≤ B + 60) : CTm false tv tk f j B (aM k 14 [] (stM ps f j)) (pForm tk pat E ps) := by
  obtain ⟨n, rfl⟩ := suc1 (m := k) (by omega)
  obtain ⟨ht, hT, hps, ha, hop0, hfr, hS⟩ := id hP
  have hA : ALM = 30000 := rfl
  have hlt : ps.1 < Tn tk := (fm_lt hf).2
  have hMg : PGg tk (pMch tk pat E) := pgg_grE
  unfold pForm
  rw [eM_form, zM_form, amth_run, List.length_nil, if_pos rfl, fin_ok, run_seq, run_set, aF_e, kS_ok, sM_f13, run_seq, run_ex, aCall_nil, kE_ab]
  refine ctm_enter (by omega) hP (jfm.rf j) fun hop => ?_
  refine ctm_adv fun _ => ?_
  have hP1 := hP.op hop hlt
  have hfr1 := hP1.2.2.2.2.2.1
  have hv : ∀ L : AL, aAt 1 (aF 13) L (stM (ps.1, ps.2.1 + 1, ps.2.2) f j) = some (some (.int (vAt tk ps.1)), stM (ps.1, ps.2.1 + 1, ps.2.2) f j) := fun L => mAt1 ht hT hlt mF13
  rw [run_seq, run_set, hv, kS_ok, run_seq, run_opF, aK_e, kOF_ok, sM_f13, show oAdd (nI ps.1) 1 = nI (ps.1 + 1) from nI_1 _, sM_p13, run_seq, run_set, aK_e, kS_ok]
  generalize hL : va_up (va_up (va_up (A0of true []) 1 (.int (nI ps.1))) 2 (.int (vAt tk ps.1))) 3 (.int (-1)) = L
  have l1 : L 1 = .int (nI ps.1) := by rw [← hL]; rfl
  have l2 : L 2 = .int (vAt tk ps.1) := by rw [← hL]; rfl
  refine ctm_pbE (F' := fun v ps' => @ite _ (PG tk (ps.1 + 1, ps.2.1 + 1, ps.2.2) ps') (Classical.propDecidable _) (pLeave (pret v) ps') none) (fun v ps' h => if_pos h) (fun v ps' h => if_neg h) ?_
  have hend : ∀ (t : TR) (ps2 : PS) (j2 : AS) (L2 : AL), ps2.2.1 = ps.2.1 + 1 → jfm false j j2 → j2.nn + 100 * (Tn tk - ps2.1) ≤ B → L2 3 = tv t → CTm false tv tk f j B (run [zSeq (zOpF oSub 14 (aK 1)) (zRet (aL 3))] nk L2 (stM ps2 f j2)) ((fun v ps' => @ite _ (PG tk (ps.1 + 1, ps.2.1 + 1, ps.2.2) ps') (Classical.propDecidable _) (pLeave (pret v) ps') none) t ps2) := by
    intro t ps2 j2 L2 ho2 hj2 hB2 l3
    by_cases hg : PG tk (ps.1 + 1, ps.2.1 + 1, ps.2.2) ps2
    · simp only [hg, if_true]
      rw [run_seq, run_opF, aK_e, kOF_ok, sM_f14, show oSub (nI ps2.2.1) 1 = nI (ps2.2.1 - 1) from nI_sub1 (by omega), sM_p14, run_ret, aL_e, l3]
      exact ctm_ret (v := t) (ps := (ps2.1, ps2.2.1 - 1, ps2.2.2)) hj2 hB2
    · simp only [hg, if_false]
      exact trivial
  generalize (fun (v : TR) (ps' : PS) => @ite _ (PG tk (ps.1 + 1, ps.2.1 + 1, ps.2.2) ps') (Classical.propDecidable _) (pLeave (pret v) ps') none) = Fq at hend ⊢
  have cEq : ∀ (s : Int32) (L : AL) (A : AS), L 2 = .int (vAt tk ps.1) → bCmp .eq (aL 2) (aK s) L A = some (some (decide (vAt tk ps.1 = s)), A) := fun s L A h => bEq_e (by rw [aL_e, h])
  rw [run_seq, run_if, cEq 25 L _ l2]
  by_cases h25 : vAt tk ps.1 = 25
  · rw [decide_eq_true h25, kI_t, if_neg (by rw [h25]; decide), if_neg (by rw [h25]; decide), if_pos h25, run_set, pb_pb]
    simp only [aCall, aArgs, aK, aL, ab_ok, ab_ab, A0of, va_up, List.length_nil, List.length_cons, List.getD_cons_zero, List.getD_cons_succ, List.getD_nil, if_true, if_false, Bool.not_not, Bool.not_true, Bool.not_false, Bool.false_eq_true, reduceIte, Nat.reduceSub, Nat.reduceAdd, Nat.reduceEqDiff, kS_ab]
    refine ctm_st hE hEg (by omega) (by omega) hP1 (jfm.rf j) fun e ps2 j2 g2 hP2 hj2 hB2 => ?_
    dsimp only at hB2
    have hS2 := hP2.2.2.2.2.2.2
    have emk := m_make (m := n) (ps := ps2) (f := f) (j := j2) (k := 18) (p := nI ps.1) (a := tv e) (b := .int (-1)) (c := .int (-1)) (by omega) (by omega) (by decide) rfl rfl rfl
    simp only [ab_ok, l1, emk, pret_pb]
    exact hend _ ps2 (mkN j2 1) _ g2.2.2.1 (hj2.mk _) (by rw [mkN_nn]; omega) rfl
  · rw [decide_eq_false h25, kI_f, run_if, cEq 11 L _ l2]
    by_cases h11 : vAt tk ps.1 = 11
    · rw [decide_eq_true h11, kI_t, if_pos h11, run_set, pb_pb]
      simp only [aCall, aArgs, aK, aL, ab_ok, ab_ab, A0of, va_up, List.length_nil, List.length_cons, List.getD_cons_zero, List.getD_cons_succ, List.getD_nil, if_true, if_false, Bool.not_not, Bool.not_true, Bool.not_false, Bool.false_eq_true, reduceIte, Nat.reduceSub, Nat.reduceAdd, Nat.reduceEqDiff, kS_ab]
      refine ctm_st hM hMg (by omega) (by omega) hP1 (jfm.rf j) fun l ps2 j2 g2 hP2 hj2 hB2 => ?_
      dsimp only at hB2
      have hS2 := hP2.2.2.2.2.2.2
      have emk := m_make (m := n) (ps := ps2) (f := f) (j := j2) (k := 19) (p := nI ps.1) (a := tLi l) (b := .int (-1)) (c := .int (-1)) (by omega) (by omega) (by decide) (okLi l) rfl rfl
      simp only [ab_ok, l1, emk, pret_pb]
      exact hend _ ps2 (mkN j2 1) _ g2.2.2.1 (hj2.mk _) (by rw [mkN_nn]; omega) rfl
    · rw [decide_eq_false h11, kI_f, if_neg h11, run_if, cEq 5 L _ l2]
      by_cases h5 : vAt tk ps.1 = 5
      · rw [decide_eq_true h5, kI_t, if_pos h5, run_seq, run_set, aCall_nil, kS_ab]
        unfold pCase
        rw [pb_pb]
        refine ctm_st hE hEg (by omega) (by omega) hP1 (jfm.rf j) fun e ps2 j2 g2 hP2 hj2 hB2 => ?_
        dsimp only at hB2
        rw [run_seq, run_ex, aCall_1, aK_e, ab_ok, kE_ab, pNeed_pb]
        refine ctm_need (by omega) hP2 hj2 fun hl2 => ?_
        rw [pb_pb, run_set]
        simp only [aCall, aArgs, aK, aL, ab_ok, ab_ab, A0of, va_up, List.length_nil, List.length_cons, List.getD_cons_zero, List.getD_cons_succ, List.getD_nil, if_true, if_false, Bool.not_not, Bool.not_true, Bool.not_false, Bool.false_eq_true, reduceIte, Nat.reduceSub, Nat.reduceAdd, Nat.reduceEqDiff, kS_ab]
        refine ctm_st hM hMg (by omega) (by omega) (hP2.one hl2) hj2 fun l ps3 j3 g3 hP3 hj3 hB3 => ?_
        dsimp only at hB3
        have hS3 := hP3.2.2.2.2.2.2
        have e1 := m_make (m := n) (ps := ps3) (f := f) (j := j3) (k := 19) (p := nI ps.1) (a := tLi l) (b := .int (-1)) (c := .int (-1)) (by omega) (by omega) (by decide) (okLi l) rfl rfl
        have e2 := m_make (m := n) (ps := ps3) (f := f) (j := mkN j3 1) (k := 15) (p := nI ps.1) (a := tv (tFn (tLi l) (nI ps.1))) (b := tv e) (c := .int (-1)) (by omega) (by rw [mkN_nn]; omega) (by decide) rfl rfl rfl
        have e2' : aM n 16 [.int 15, tv (19, tLi l, no, no, nI ps.1), tv e, .int (-1), .int (nI ps.1)] (stM ps3 f (mkN j3 1)) = some (some (tv (tApp (tFn (tLi l) (nI ps.1)) e (nI ps.1))), stM ps3 f (mkN (mkN j3 1) 1)) := e2
        simp only [ab_ok, l1, e1, e2', pret_pb]
        have o2 := g2.2.2.1
        have o3 := g3.2.2.1
        dsimp only at o2 o3
        exact hend _ ps3 (mkN (mkN j3 1) 1) _ (by omega) ((hj3.mk _).mk _) (by simp only [mkN_nn]; omega) rfl
      · rw [decide_eq_false h5, kI_f, if_neg h5, if_neg h25, run_seq, run_set, aCall_nil, kS_ab]
        by_cases h14 : vAt tk ps.1 = 14
        · rw [if_pos h14]
          unfold pChoi
          rw [pb_pb]
          refine ctm_st hE hEg (by omega) (by omega) hP1 (jfm.rf j) fun t ps2 j2 g2 hP2 hj2 hB2 => ?_
          dsimp only at hB2
          have c27 : ∀ A : AS, aIf (bCmp .eq (aL 2) (aK 14)) (aK 27) (aK 7) (va_up L 4 (tv t)) A = some (some (.int 27), A) := by
            intro A
            unfold aIf
            rw [cEq 14 _ _ (by simpa [va_up] using l2), ab_ok, decide_eq_true h14]
            rfl
          rw [run_seq, run_ex, aCall_1, c27, ab_ok, kE_ab, pNeed_pb]
          refine ctm_need (by omega) hP2 hj2 fun hl2 => ?_
          rw [pb_pb, run_seq, run_set, aCall_nil, kS_ab]
          refine ctm_st hE hEg (by omega) (by omega) (hP2.one hl2) hj2 fun y ps3 j3 g3 hP3 hj3 hB3 => ?_
          dsimp only at hB3
          rw [run_seq, run_if, cEq 14 _ _ (by simpa [va_up] using l2), decide_eq_true h14, kI_t, run_ex, aCall_1, aK_e, ab_ok, kE_ab, pNeed_pb]
          refine ctm_need (by omega) hP3 hj3 fun hl3 => ?_
          rw [pb_pb, run_set]
          unfold aIf
          rw [cEq 14 _ _ (by simpa [va_up] using l2), ab_ok, decide_eq_true h14, if_pos rfl]
          simp only [aCall, aArgs, aK, aL, ab_ok, ab_ab, A0of, va_up, List.length_nil, List.length_cons, List.getD_cons_zero, List.getD_cons_succ, List.getD_nil, if_true, if_false, Bool.not_not, Bool.not_true, Bool.not_false, Bool.false_eq_true, reduceIte, Nat.reduceSub, Nat.reduceAdd, Nat.reduceEqDiff, kS_ab]
          refine ctm_st hE hEg (by omega) (by omega) (hP3.one hl3) hj3 fun z ps4 j4 g4 hP4 hj4 hB4 => ?_
          dsimp only at hB4
          have hS4 := hP4.2.2.2.2.2.2
          have hfr4 := hP4.2.2.2.2.2.1
          have ech := m_choice (m := n) (ps := ps4) (f := f) (j := j4) (test := t) (yes := y) (els := z) (p := nI ps.1) (by omega) (by omega) (by omega)
          simp only [ab_ok, l1, ech, pret_pb]
          have o2 := g2.2.2.1
          have o3 := g3.2.2.1
          have o4 := g4.2.2.1
          dsimp only at o2 o3 o4
          exact hend _ ps4 (mkN j4 8) _ (by omega) (hj4.mk _) (by rw [mkN_nn]; omega) rfl
        · rw [if_neg h14]
          unfold pLoop
          rw [pb_pb]
          refine ctm_st hE hEg (by omega) (by omega) hP1 (jfm.rf j) fun t ps2 j2 g2 hP2 hj2 hB2 => ?_
          dsimp only at hB2
          have c7 : ∀ A : AS, aIf (bCmp .eq (aL 2) (aK 14)) (aK 27) (aK 7) (va_up L 4 (tv t)) A = some (some (.int 7), A) := by
            intro A
            unfold aIf
            rw [cEq 14 _ _ (by simpa [va_up] using l2), ab_ok, decide_eq_false h14]
            rfl
          rw [run_seq, run_ex, aCall_1, c7, ab_ok, kE_ab, pNeed_pb]
          refine ctm_need (by omega) hP2 hj2 fun hl2 => ?_
          rw [pb_pb, run_seq, run_set, aCall_nil, kS_ab]
          refine ctm_st hE hEg (by omega) (by omega) (hP2.one hl2) hj2 fun e ps3 j3 g3 hP3 hj3 hB3 => ?_
          dsimp only at hB3
          have hS3 := hP3.2.2.2.2.2.2
          have hfr3 := hP3.2.2.2.2.2.1
          rw [run_seq, run_if, cEq 14 _ _ (by simpa [va_up] using l2), decide_eq_false h14, kI_f, run_skip, run_set]
          unfold aIf
          rw [cEq 14 _ _ (by simpa [va_up] using l2), ab_ok, decide_eq_false h14, if_neg (by decide)]
          have elp := m_loop (m := n) (ps := ps3) (f := f) (j := j3) (test := t) (body := e) (p := nI ps.1) (by omega) (by omega) (by omega)
          simp only [aCall, aArgs, aK, aL, ab_ok, A0of, va_up, List.length_nil, List.length_cons, List.getD_cons_zero, List.getD_cons_succ, List.getD_nil, if_true, if_false, Bool.not_not, Bool.not_true, Bool.not_false, Bool.false_eq_true, reduceIte, Nat.reduceSub, Nat.reduceAdd, Nat.reduceEqDiff, l1, elp, kS_ok]
          have o2 := g2.2.2.1
          have o3 := g3.2.2.1
          dsimp only at o2 o3
          exact hend _ (ps3.1, ps3.2.1, ps3.2.2.1 + 1, ps3.2.2.2) (mkN j3 31) _ (by dsimp only; omega) (hj3.mk _) (by rw [mkN_nn]; dsimp only; omega) rfl
end MFO
