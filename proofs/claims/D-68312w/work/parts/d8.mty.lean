/-! M: types -/
section MTY
variable {α : Type} {W : Bool} {em : α → V} {tk : TK} {f f1 f' fo : FM} {j j1 j' j0 : AS} {B B1 : Nat} {ps ps' : PS} {m n k' : Nat} {LV : AL}
theorem PRM.go {k k' : Nat} (h : PRM tk ps f j k) {a o : Nat} (h1 : ps.1 ≤ a) (h2 : a ≤ Tn tk) (ho : o ≤ 32) (hj : jfm W j j') (hS : fSm f' + j'.nn + 8 * k' + 100 * (Tn tk - a) ≤ 29000) : PRM tk (a, o, ps.2.2) f' j' k' := by
  obtain ⟨ht, hT, hps, ha, _, hfr, _⟩ := h
  exact ⟨ht, hT.jfm hj, hps, h2, ho, by show ps.2.2.1 + ps.2.2.2.2.1.length + 100 * (Tn tk - a) ≤ 14000; omega, hS⟩
theorem m_built (hm : 3 ≤ m) (ht : tkOK tk) (hT : TKM tk j) (ha : ps.1 ≤ Tn tk) {args : V} {b : Nat} (ok : okF true args = true) (hn : j.nn < ALM) : aM m 44 [args, .int (nI b)] (stM ps f j) = if tycB tk ps.1 = true then some (some (tv (53, args, .int (if kAt tk ps.1 = 5 then -1 else vAt tk ps.1), .int (if kAt tk ps.1 = 5 then vAt tk ps.1 else -1), nI b)), stM (ps.1 + 1, ps.2) f (mkN j 1)) else some (none, ftM (stM ps f j) 1) := by
  obtain ⟨n, rfl⟩ := suc1 (m := m) (by omega)
  have e := bNot_e (aCall0_b (L := A0of true [args, .int (nI b)]) (m_isTyc (m := n) (f := f) (by omega) ht hT ha))
  rw [eM_built, zM_built, amth_run, if_pos (show [args, Term.int (nI b)].length = 2 from rfl), fin_ok, run_seq, run_if, e]
  cases h : tycB tk ps.1 with
  | false => rw [Bool.not_false, kI_t, run_ex, aCall_nil, m_stop (by omega), kE_no, if_neg (by decide)]
  | true =>
    have hlt := tyc_lt h
    rw [Bool.not_true, kI_f, run_skip, run_seq, run_set, aIf01 (mK n (by omega) ht hT ha 5), kS_ok, run_seq, run_set, mAt1 ht hT hlt mF13, kS_ok, run_seq, run_opF, aK_e, kOF_ok, sM_f13, show oAdd (nI ps.1) 1 = nI (ps.1 + 1) from nI_1 _, sM_p13, if_pos rfl]
    have emk : ∀ x y : Int32, aM n 16 [.int 53, args, .int x, .int y, .int (nI b)] (stM (ps.1 + 1, ps.2) f j) = some (some (tv (53, args, .int x, .int y, nI b)), stM (ps.1 + 1, ps.2) f (mkN j 1)) := fun x y => m_make (by omega) hn (by decide) ok rfl rfl
    by_cases h5 : kAt tk ps.1 = 5
    · have d : decide (kAt tk ps.1 = 5) = true := decide_eq_true h5
      simp only [run_ret, d10, eq_self, decide_true, decide_false, ti_b, b2i_t, b2i_f, aK, aL, aF, aSz, aBin, aDiv, aB, aAt, aNd, aArgs, aCall, aIf, bCmp, bZ, bAnd, bOr, bNot, bTT, bIf, ab_ok, ab_no, ab_none, ab_ab, ab_ite, aok_ok, aok_none, og_ok, og_none, vbin_i, vb8_i, vput_i, vI_i, cmp_i, hold_eq, hold_ne, hold_lt, hold_ge, hold_gt, hold_le, b2i_0, ss_b, ss_ite, oAdd, oSub, oMul, Option.bind_some, A0of, va_up, List.length_nil, List.length_cons, List.getD_cons_zero, List.getD_cons_succ, List.getD_nil, if_true, if_false, Bool.not_not, Bool.not_true, Bool.not_false, Bool.false_eq_true, reduceIte, Nat.reduceSub, Nat.reduceAdd, Nat.reduceEqDiff, d, emk, h5]
    · have d : decide (kAt tk ps.1 = 5) = false := decide_eq_false h5
      simp only [run_ret, d10, eq_self, decide_true, decide_false, ti_b, b2i_t, b2i_f, aK, aL, aF, aSz, aBin, aDiv, aB, aAt, aNd, aArgs, aCall, aIf, bCmp, bZ, bAnd, bOr, bNot, bTT, bIf, ab_ok, ab_no, ab_none, ab_ab, ab_ite, aok_ok, aok_none, og_ok, og_none, vbin_i, vb8_i, vput_i, vI_i, cmp_i, hold_eq, hold_ne, hold_lt, hold_ge, hold_gt, hold_le, b2i_0, ss_b, ss_ite, oAdd, oSub, oMul, Option.bind_some, A0of, va_up, List.length_nil, List.length_cons, List.getD_cons_zero, List.getD_cons_succ, List.getD_nil, if_true, if_false, Bool.not_not, Bool.not_true, Bool.not_false, Bool.false_eq_true, reduceIte, Nat.reduceSub, Nat.reduceAdd, Nat.reduceEqDiff, d, emk, h5]
theorem m_tyc {args : V} {b : Nat} (ok : okF true args = true) : CoM W tv tk 3 90 44 [args, .int (nI b)] (pTyc tk args b) := by
  intro k ps f j B hk hP hB
  obtain ⟨ht, hT, hps, ha, ho, hfr, hS⟩ := id hP
  have hA : ALM = 30000 := rfl
  refine ctm_gT ?_
  rw [m_built hk ht hT ha ok (by omega)]
  cases h : tycB tk ps.1 with
  | false =>
    rw [if_neg (by decide), if_neg (by decide)]
    exact ctm_flt (jfm.rf j)
  | true =>
    have hlt : ps.1 < Tn tk := tyc_lt h
    rw [if_pos rfl, if_pos rfl]
    exact ctm_ret (ps := (ps.1 + 1, ps.2)) ((jfm.rf j).mk _) (by rw [mkN_nn]; dsimp only; omega)
theorem m_tycs {b : Nat} (hn : 4 ≤ n) (N : Nat) : ∀ (M : Nat) (t : TR) (ps : PS) (j : AS) (LV : AL) (K B0 C0 : KT) (F : TR → PA α), M ≤ N → PRM tk ps f j (n + 1) → jfm W j0 j → LV 1 = .int (nI b) → LV 2 = tv t →
    (∀ t' a j' LV', ps.1 ≤ a → a ≤ Tn tk → jfm W j0 j' → j'.nn + 100 * (Tn tk - a) ≤ j.nn + 100 * (Tn tk - ps.1) → LV' 2 = tv t' → CTm W em tk fo j0 B (K LV' (stM (a, ps.2) f j')) (F t' (a, ps.2))) →
    CTm W em tk fo j0 B (rn (zWh (N + 1) (bZ .ne (aCall (aM n) 45 [])) (zSet 2 (aCall (aM n) 44 [(aCall (aM n) 46 [(aL 2)]), (aL 1)])) zSkip LV (stM ps f j)) K B0 C0) (pb (pTycs tk b M t) F ps) := by
  induction N with
  | zero =>
    intro M t ps j LV K B0 C0 F hM
    have : M = 0 := by omega
    subst this
    intros
    exact trivial
  | succ N ih =>
    intro M t ps j LV K B0 C0 F hM hP hj l1 l2 hK
    cases M with
    | zero => exact trivial
    | succ M =>
      obtain ⟨ht, hT, hps, ha, ho, hfr, hS⟩ := id hP
      have hA : ALM = 30000 := rfl
      rw [rn_wh, aCall0_b (m_isTyc (by omega) ht hT ha), ab_ok]
      cases h : tycB tk ps.1 with
      | false =>
        rw [if_neg (by decide), pb_val (v := t) (ps' := ps) (by simp only [pTycs, h, Bool.false_eq_true, if_false])]
        exact hK t ps.1 j LV (Nat.le_refl _) ha hj (Nat.le_refl _) l2
      | true =>
        have hlt : ps.1 < Tn tk := tyc_lt h
        have e46 := m_single (m := n) (ps := ps) (f := f) (j := j) (t := t) (by omega) (by omega)
        have e44 := m_built (m := n) (ps := ps) (f := f) (j := mkN j 1) (args := tLi [t]) (b := b) (by omega) ht hT ha (okLi [t]) (by rw [mkN_nn]; omega)
        rw [h, if_pos rfl] at e44
        rw [if_pos rfl, pb_at (p' := pb (pTyc tk (tLi [t]) b) fun t' => pTycs tk b M t') (ps' := ps) (by simp only [pTycs, h, if_true]), pb_pb]
        simp only [rn_set, rn_skip, aCall, aArgs, aL, ab_ok, A0of, va_up, List.length_nil, List.length_cons, List.getD_cons_zero, List.getD_cons_succ, List.getD_nil, if_true, if_false, Bool.not_not, Bool.not_true, Bool.not_false, Bool.false_eq_true, reduceIte, Nat.reduceSub, Nat.reduceAdd, Nat.reduceEqDiff, l1, l2, e46, e44]
        refine ctm_pbT ?_
        rw [pb_val (v := (53, tLi [t], .int (if kAt tk ps.1 = 5 then -1 else vAt tk ps.1), .int (if kAt tk ps.1 = 5 then vAt tk ps.1 else -1), nI b)) (ps' := (ps.1 + 1, ps.2)) (by simp only [h, if_true])]
        refine ih M _ (ps.1 + 1, ps.2) (mkN (mkN j 1) 1) _ K B0 C0 F (by omega) (hP.at (Nat.le_succ _) hlt (((jfm.rf (W := W) j).mk _).mk _) (by simp only [mkN_nn]; omega)) ((hj.mk _).mk _) (by simpa [va_up] using l1) rfl fun t' a j' LV' r1 r2 r3 r4 r5 => ?_
        dsimp only at r1 r4
        simp only [mkN_nn] at r4
        exact hK t' a j' LV' (by omega) r2 r3 (by omega) r5
/-- where a type begins -/
def pFst (tk : TK) (ty : PA TR) (b : Nat) : PA TR := fun ps => (if kAt tk ps.1 = 4 then pTV tk else if sg tk ps.1 37 = true then pRecT tk 52 40 51 ty else if sg tk ps.1 33 = true then pBrT tk ty else pTyc tk no b) ps
theorem pFst_gt {ty : PA TR} {b : Nat} {v : TR} (h : pFst tk ty b ps = some (.inl (v, ps'))) : ps.1 < ps'.1 ∧ ps'.1 ≤ Tn tk ∧ ps'.2 = ps.2 := by
  unfold pFst at h
  split at h
  · exact (grT_ok h).2
  · split at h
    · exact (grT_ok h).2
    · split at h
      · exact (grT_ok h).2
      · exact (grT_ok h).2
theorem m_firstType {ty : PA TR} {c : Nat} (htg : PGr tk ty) (hty : CoM W tv tk c 30 35 [] ty) (k : Nat) (ps : PS) (f : FM) (j : AS) (B : Nat) (hk : max c 5 + 2 ≤ k) (hP : PRM tk ps f j k) (hB : j.nn + 100 * (Tn tk - ps.1) ≤ B + 60) : CTm W tv tk f j B (aM k 38 [] (stM ps f j)) (pFst tk ty ps.1 ps) := by
  obtain ⟨n, rfl⟩ := suc1 (m := k) (by omega)
  obtain ⟨⟨o, base⟩, g⟩ := f
  obtain ⟨ht, hT, hps, ha, ho, hfr, hS⟩ := id hP
  have hA : ALM = 30000 := rfl
  unfold pFst
  rw [eM_firstType, zM_firstType, amth_run, List.length_nil, if_pos rfl, fin_ok, run_seq, run_set, aF_e, kS_ok, sM_f13, run_seq, run_if, mK n (by omega) ht hT ha 4]
  by_cases h4 : kAt tk ps.1 = 4
  · have hlt : ps.1 < Tn tk := k_lt (by rw [h4]; decide)
    have hL : ∀ A, aL 1 (va_up (A0of true []) 1 (.int (nI ps.1))) A = some (some (.int (nI ps.1)), A) := fun _ => rfl
    have e1 := mAt1 (ps := (ps.1 + 1, ps.2)) (f := ((o, base), g)) ht hT hlt (hL (stM (ps.1 + 1, ps.2) ((o, base), g) j))
    have emk := m_make (m := n) (ps := (ps.1 + 1, ps.2)) (f := ((o, base), g)) (j := j) (k := 50) (p := nI ps.1) (a := .int (vAt tk ps.1)) (b := .int (-1)) (c := .int (-1)) (by omega) (by omega) (by decide) rfl rfl rfl
    rw [decide_eq_true h4, kI_t, if_pos h4, run_seq, run_opF, aK_e, kOF_ok, sM_f13, show oAdd (nI ps.1) 1 = nI (ps.1 + 1) from nI_1 _, sM_p13, run_ret]
    have e5 : aCall (aM n) 16 [(aK 50), (aAt 1 (aL 1)), (aK (-1)), (aK (-1)), (aL 1)] (va_up (A0of true []) 1 (.int (nI ps.1))) (stM (ps.1 + 1, ps.2) ((o, base), g) j) = some (some (tv (50, .int (vAt tk ps.1), no, no, nI ps.1)), stM (ps.1 + 1, ps.2) ((o, base), g) (mkN j 1)) := by
      unfold aCall aArgs
      rw [aK_e, ab_ok]
      unfold aArgs
      rw [e1, ab_ok]
      exact emk
    rw [e5]
    refine ctm_gT ?_
    rw [if_pos h4]
    exact ctm_ret (ps := (ps.1 + 1, ps.2)) ((jfm.rf j).mk _) (by rw [mkN_nn]; dsimp only; omega)
  · rw [decide_eq_false h4, kI_f, run_skip, if_neg h4, run_seq, run_if, mS n (by omega) ht hT ha 37]
    cases h37 : sg tk ps.1 37 with
    | true =>
      rw [kI_t, run_ret, aCall_nil, if_pos rfl]
      obtain ⟨n, rfl⟩ := suc1 (m := n) (by omega)
      refine ctm_gT ?_
      rw [eM_recordType, zM_recordType, amth_run, List.length_nil, if_pos rfl, fin_ok]
      exact m_rec0 (fk := 52) (s := 40) (k := 51) (by omega) (by decide) (by decide) htg hty hP.dn hB
    | false =>
      rw [kI_f, run_skip, if_neg (by decide), run_seq, run_if, bNot_e (mS n (by omega) ht hT ha 33)]
      cases h33 : sg tk ps.1 33 with
      | false =>
        rw [Bool.not_false, kI_t, run_ret, if_neg (by decide), aCall_2, aK_e, ab_ok, aL_e, ab_ok]
        exact m_tyc (b := ps.1) rfl n ps _ j B (by omega) hP.dn (by omega)
      | true =>
        rw [Bool.not_true, kI_f, run_skip, if_pos rfl]
        refine ctm_gT ?_
        rw [run_seq, run_ex, aCall_nil, kE_ab]
        refine ctm_enter (by omega) hP (jfm.rf j) fun hop => ?_
        refine ctm_adv fun hlt => ?_
        have hlt : ps.1 < Tn tk := hlt
        have hP1 := hP.op hop hlt
        rw [run_seq, run_opF, aK_e, kOF_ok, sM_f13, show oAdd (nI ps.1) 1 = nI (ps.1 + 1) from nI_1 _, sM_p13, run_seq, run_set, aSz_e, kS_ok, sM_R17, sM_o17, run_seq, run_rn]
        have hb : BodyD W tk n o base g ty (fun L => L 1 = .int (nI ps.1) ∧ L 2 = .int (nI (o + base.length))) 30 (zAdd 17 (aCall (aM n) 35 [])) := by
          intro α em fo F don ps j j0 LV K B0 C0 B hP hj hI hK
          have hS := hP.2.2.2.2.2.2
          rw [rn_add, aCall_nil]
          refine ctm_st hty htg (by omega) (by omega) hP hj fun t ps1 j1 g1 hP1 hj1 hB1 => ?_
          have hlen : o + (base ++ don.map tv).length < ALM := by simp only [fSm] at hS; omega
          rw [ma17 hlen, og_ok, show base ++ don.map tv ++ [tv t] = base ++ (don ++ [t]).map tv by simp]
          exact hK t ps1 j1 LV g1 hj1 hB1 hI
        have hP1' : PRM tk (ps.1 + 1, ps.2.1 + 1, ps.2.2) ((o, base ++ ([] : List TR).map tv), g) j (n + 1) := by simpa using hP1
        have := m_seps (em := tv) (fo := ((o, base), g)) (W := W) (s := 39) (by omega) (by omega) (by omega) hb LN LF [] (ps.1 + 1, ps.2.1 + 1, ps.2.2) j j (va_up (va_up (A0of true []) 1 (.int (nI ps.1))) 2 (.int (nI (o + base.length)))) (run [zSeq (zEx (aCall (aM n) 33 [(aK 34)])) (zSeq (zOpF oSub 14 (aK 1)) (zRet (aIf (bCmp .eq (aSz 17) (aBin oAdd (aL 2) (aK 1))) (aPop 17) (aCall (aM n) 44 [(aCall (aM n) 42 [(aL 2)]), (aL 1)]))))] nk) nk nk (j.nn + 100 * (Tn tk - (ps.1 + 1))) B (fun t ts => pNeed tk 34 (pLeave fun ps2 => if ts = [] then some (.inl (t, ps2)) else pTyc tk (tLi (t :: ts)) ps.1 ps2)) (by decide) hP1' (jfm.rf j) ⟨rfl, rfl⟩ (Nat.le_refl _) fun t ts ps2 j2 L2 g2 hj2 hB2 hS2 hI2 _ => ?_
        · simpa using this
        · rw [List.nil_append] at hS2 ⊢
          have hP2 : PRM tk ps2 ((o, base ++ (t :: ts).map tv), g) j2 (n + 1) := hP1.nx g2 hj2 hS2
          rw [run_seq, run_ex, aCall_1, aK_e, ab_ok, kE_ab]
          refine ctm_need (by omega) hP2 hj2 fun hlt2 => ?_
          have o2 := g2.2.2.1
          dsimp only at o2
          have e14 : nI ps2.2.1 - 1 = nI (ps2.2.1 - 1) := nI_sub1 (by omega)
          have hil : fSm ((o, base ++ (t :: ts).map tv), g) = o + (base.length + (ts.length + 1)) + g.1 + g.2.length := by simp [fSm]
          rw [hil] at hS2
          obtain ⟨l1, l2⟩ := hI2
          have e1 : ∀ A : AS, aBin oAdd (aL 2) (aK 1) L2 A = some (some (.int (nI (o + base.length + 1))), A) := by
            intro A
            simp only [d10, eq_self, decide_true, decide_false, ti_b, b2i_t, b2i_f, aK, aL, aF, aSz, aBin, aDiv, aB, aAt, aNd, aArgs, aCall, aIf, bCmp, bZ, bAnd, bOr, bNot, bTT, bIf, ab_ok, ab_no, ab_none, ab_ab, ab_ite, aok_ok, aok_none, og_ok, og_none, vbin_i, vb8_i, vput_i, vI_i, cmp_i, hold_eq, hold_ne, hold_lt, hold_ge, hold_gt, hold_le, b2i_0, ss_b, ss_ite, oAdd, oSub, oMul, Option.bind_some, A0of, va_up, List.length_nil, List.length_cons, List.getD_cons_zero, List.getD_cons_succ, List.getD_nil, if_true, if_false, Bool.not_not, Bool.not_true, Bool.not_false, Bool.false_eq_true, reduceIte, Nat.reduceSub, Nat.reduceAdd, Nat.reduceEqDiff, l2, nI_1]
          have ec : bCmp .eq (aSz 17) (aBin oAdd (aL 2) (aK 1)) L2 (stM (ps2.1 + 1, ps2.2.1 - 1, ps2.2.2) ((o, base ++ (t :: ts).map tv), g) j2) = some (some (decide (ts = [])), stM (ps2.1 + 1, ps2.2.1 - 1, ps2.2.2) ((o, base ++ (t :: ts).map tv), g) j2) := by
            unfold bCmp
            rw [aSz_e, ab_ok, e1, ab_ok, sM_R17, sM_o17, cmp_i, hold_eq]
            have : decide (nI (o + (base ++ (t :: ts).map tv).length) = nI (o + base.length + 1)) = decide (ts = []) := by
              rw [decide_eq_decide]
              constructor
              · intro h
                have := nI_inj (by simp; omega) (by omega) h
                simp at this
                exact List.length_eq_zero_iff.mp (by omega)
              · intro h
                subst h
                simp [Nat.add_assoc]
            rw [this]
            rfl
          rw [run_seq, run_opF, aK_e, kOF_ok, sM_f14, show oSub (nI ps2.2.1) 1 = nI (ps2.2.1 - 1) from e14, sM_p14, run_ret]
          unfold pLeave
          dsimp only
          unfold aIf
          rw [ec, ab_ok]
          cases ts with
          | nil =>
            rw [if_pos (by decide), if_pos rfl, show base ++ [t].map tv = base ++ [tv t] from rfl, mp17]
            exact ctm_ret (ps := (ps2.1 + 1, ps2.2.1 - 1, ps2.2.2)) hj2 (by dsimp only; simp at hB2; omega)
          | cons u ts =>
            have e42 := m_list (m := n) (ps := (ps2.1 + 1, ps2.2.1 - 1, ps2.2.2)) (j := j2) (o := o) (base := base) (items := t :: u :: ts) (g := g) (by omega) (by simp at hS2 ⊢; omega) (by simp at hS2 ⊢; omega) (by simp at hS2 ⊢; omega)
            rw [if_neg (by simp), if_neg (by simp), aCall_2, aCall_1, aL_e, l2, ab_ok, e42, ab_ok, aL_e, l1, ab_ok]
            simp only [List.length_cons] at hB2 hS2 ⊢
            have ho2 := hP2.2.2.2.2.1
            have hf0 : fSm ((o, base), g) = o + base.length + g.1 + g.2.length := rfl
            exact ctm_tl (n := n) (m_tyc (okLi _)) (by omega) (hP2.go (Nat.le_succ _) hlt2 (by omega) ((jfm.rf (W := W) _).mk _) (by rw [mkN_nn, hf0]; omega)) (hj2.mk _) (by rw [mkN_nn]; dsimp only; omega)
theorem m_appliedType {ty : PA TR} {c : Nat} (htg : PGr tk ty) (hty : CoM W tv tk c 30 35 [] ty) : CoM W tv tk (max c 5 + 3) 60 37 [] (pCon tk ty) := by
  intro k ps f j B hk hP hB
  obtain ⟨n, rfl⟩ := suc1 (m := k) (by omega)
  obtain ⟨ht, hT, hps, ha, ho, hfr, hS⟩ := id hP
  refine ctm_gT ?_
  rw [eM_appliedType, zM_appliedType, amth_run, List.length_nil, if_pos rfl, fin_ok, run_seq, run_set, aF_e, kS_ok, sM_f13, run_seq, run_set, aCall_nil, kS_ab]
  show CTm W tv tk f j B _ (pb (pFst tk ty ps.1) (fun t => pTycs tk ps.1 LF t) ps)
  refine ctm_bind (B1 := j.nn + 100 * (Tn tk - ps.1) - 60) (jfm.rf j) (m_firstType htg hty n ps f j _ (by omega) hP.dn (by omega)) fun t ps1 j1 hp hj1 hB1 => ?_
  obtain ⟨g1, g2, g3⟩ := pFst_gt hp
  obtain ⟨a1, q1⟩ := ps1
  dsimp only at g1 g2 g3 hB1
  subst g3
  rw [run_seq, run_rn, ← pb_ret (pTycs tk ps.1 LF t)]
  refine m_tycs (by omega) 99999 LF t (a1, ps.2) j1 _ _ nk nk _ (by decide) (hP.at (by omega) g2 hj1 (by omega)) hj1 rfl rfl fun t' a j' LV' r1 r2 r3 r4 r5 => ?_
  dsimp only at r1 r4
  rw [run_ret, aL_e, r5]
  exact ctm_ret r3 (by dsimp only; omega)
end MTY
