/-! M: records -/
section MRC
variable {α : Type} {W : Bool} {em : α → V} {tk : TK} {f f1 f' fo : FM} {j j1 j' j0 : AS} {B B1 : Nat} {ps ps' : PS} {m n k' : Nat} {LV : AL}
theorem aSz_e (k : Nat) (L : AL) (A : AS) : aSz k L A = some (some (.int (nI (A.of k + (A.R k).length))), A) := rfl
theorem m_flds {o : Nat} {base : List V} {g : Nat × List V} {fk s : Int32} {val : PA TR} {tg c : Nat} (hn : max c 5 ≤ n) (hfk : fk = 13 ∨ fk = 34 ∨ fk = 52) (hpg : PGr tk val) (hv : CoM W tv tk c 30 tg [] val) (N : Nat) :
    ∀ (M : Nat) (items : List (Int32 × TR)) (ps : PS) (j j0 : AS) (LV : AL) (K B0 C0 : KT) (B1 B : Nat) (F : List (Int32 × TR) → PA α), M ≤ N → PRM tk ps ((o, base ++ fvs items), g) j (n + 1) → jfm W j0 j → FldR items → j.nn + 100 * (Tn tk - ps.1) + 50 * items.length ≤ B1 → LV 2 = .int (nI (o + base.length)) →
    (∀ items' ps' j' LV', PG tk ps ps' → jfm W j0 j' → FldR items' → j'.nn + 100 * (Tn tk - ps'.1) + 50 * items'.length ≤ B1 → fSm ((o, base ++ fvs items'), g) + j'.nn + 8 * (n + 1) + 100 * (Tn tk - ps'.1) ≤ 29000 → LV' 1 = LV 1 → LV' 2 = LV 2 → CTm W em tk fo j0 B (K LV' (stM ps' ((o, base ++ fvs items'), g) j')) (F (srt items') ps')) →
    CTm W em tk fo j0 B (rn (zDo N (zSeq (zSet 3 (aF 13)) (zSeq (zEx (aCall (aM n) 30 [(aL 2)])) (zSeq (zSet 4 (aCall (aM n) 32 [])) (zSeq (zEx (aCall (aM n) 33 [(aK s)])) (zAdd 17 (aCall (aM n) 16 [(aK fk), (aL 4), (aCall (aM n) tg []), (aK (-1)), (aL 3)])))))) (bZ .ne (aCall (aM n) 9 [(aK 39)])) LV (stM ps ((o, base ++ fvs items), g) j)) K B0 C0) (pb (pFlds tk fk s val M (srt items)) F ps) := by
  induction N with
  | zero =>
    intro M items ps j j0 LV K B0 C0 B1 B F hM
    have : M = 0 := by omega
    subst this
    intros
    exact trivial
  | succ N ih =>
    intro M items ps j j0 LV K B0 C0 B1 B F hM hP hj hR hB h2 hK
    cases M with
    | zero => exact trivial
    | succ M =>
      obtain ⟨ht, hT, hps, ha, ho, hfr, hS⟩ := id hP
      have hA : ALM = 30000 := rfl
      have hil : fSm ((o, base ++ fvs items), g) = o + (base.length + items.length) + g.1 + g.2.length := by simp [fSm]
      rw [rn_do, rn_seq, rn_set, aF_e, ab_ok, sM_f13, rn_seq, rn_ex, aCall_1, aL_e, ab_ok, show va_up LV 3 (.int (nI ps.1)) 2 = LV 2 from rfl, h2, m_checkLabel (by omega) ht hT ha hR.1 (by omega) (by omega)]
      cases hl : labB tk ps.1 with
      | false =>
        rw [pb_flt (k := 1) (by simp only [pFlds, hl, A0of, va_up, List.length_nil, List.length_cons, List.getD_cons_zero, List.getD_cons_succ, List.getD_nil, if_true, if_false, Bool.not_not, Bool.not_true, Bool.not_false, Bool.false_eq_true, reduceIte, Nat.reduceSub, Nat.reduceAdd, Nat.reduceEqDiff]), if_neg (by decide), ab_no]
        exact ctm_flt hj
      | true =>
        have hlt := lab_lt hl
        rw [if_pos rfl]
        cases hy : items.any (fun q => decide (q.1 = labV tk ps.1)) with
        | true =>
          rw [pb_flt (k := 2) (by simp only [pFlds, hl, srt_any, hy, A0of, va_up, List.length_nil, List.length_cons, List.getD_cons_zero, List.getD_cons_succ, List.getD_nil, if_true, if_false, Bool.not_not, Bool.not_true, Bool.not_false, Bool.false_eq_true, reduceIte, Nat.reduceSub, Nat.reduceAdd, Nat.reduceEqDiff]), if_pos rfl, ab_no]
          exact ctm_flt hj
        | false =>
          rw [if_neg (by decide), ab_ok, rn_seq, rn_set, aCall_nil, m_label (by omega) ht hT ha, hl, if_pos rfl, ab_ok, rn_seq, rn_ex, aCall_1, aK_e, ab_ok]
          rw [pb_at (p' := pNeed tk s (pb val fun v => fun ps' =>
            if sg tk ps'.1 39 = true then pFlds tk fk s val M (insF (labV tk ps.1) (fk, .int (labV tk ps.1), tv v, no, nI ps.1) (srt items)) (ps'.1 + 1, ps'.2) else some (.inl (insF (labV tk ps.1) (fk, .int (labV tk ps.1), tv v, no, nI ps.1) (srt items), ps')))) (ps' := (ps.1 + 1, ps.2)) (by simp only [pFlds, hl, srt_any, hy, A0of, va_up, List.length_nil, List.length_cons, List.getD_cons_zero, List.getD_cons_succ, List.getD_nil, if_true, if_false, Bool.not_not, Bool.not_true, Bool.not_false, Bool.false_eq_true, reduceIte, Nat.reduceSub, Nat.reduceAdd, Nat.reduceEqDiff]), pNeed_pb]
          have hP1 := hP.one hlt
          refine ctm_need (by omega) hP1 hj fun hlt2 => ?_
          have hP2 := hP1.one hlt2
          rw [pb_pb, rn_add]
          simp only [aCall, aArgs, aK, aL, ab_ok, ab_ab, A0of, va_up, List.length_nil, List.length_cons, List.getD_cons_zero, List.getD_cons_succ, List.getD_nil, if_true, if_false, Bool.not_not, Bool.not_true, Bool.not_false, Bool.false_eq_true, reduceIte, Nat.reduceSub, Nat.reduceAdd, Nat.reduceEqDiff]
          refine ctm_st hv hpg (by omega) (by omega) hP2 hj fun v ps3 j3 g3 hP3 hj3 hB3 => ?_
          dsimp only at hB3
          obtain ⟨_, hT3, hps3, ha3, _, _, hS3⟩ := id hP3
          have emk := m_makeF (m := n) (ps := ps3) (f := ((o, base ++ fvs items), g)) (j := j3) (fk := fk) (i := labV tk ps.1) (p := nI ps.1) (t := v) (by omega) hfk (by omega)
          have hlen : o + (base ++ fvs items).length < ALM := by simp [fvs]; omega
          simp (disch := first | assumption | omega | (simp only [pr0_1, pr1_1, pr2_1, pr0_10, pr1_10, pr2_10, pr0_11, pr1_11, pr2_11, pr0_12, pr1_12, pr2_12, pr0_13, pr1_13, pr2_13, pr0_14, pr1_14, pr2_14, pr0_15, pr1_15, pr2_15, pr0_16, pr1_16, pr2_16, pr0_17, pr1_17, pr2_17, pr0_18, pr1_18, pr2_18, pr0_19, pr1_19, pr2_19, pr0_20, pr1_20, pr2_20, pr0_30, pr1_30, pr2_30, pr0_31, pr1_31, pr2_31, pr0_32, pr1_32, pr2_32, pr0_33, pr1_33, pr2_33, pr0_34, pr1_34, pr2_34, pr0_35, pr1_35, pr2_35, pr0_36, pr1_36, pr2_36, pr0_37, pr1_37, pr2_37, pr0_50, pr1_50, pr2_50, pr0_51, pr1_51, pr2_51, pr0_52, pr1_52, pr2_52, pr0_53, pr1_53, pr2_53, pr0_54, pr1_54, pr2_54, pr0_70, pr1_70, pr2_70, pr0_71, pr1_71, pr2_71, pr0_72, pr1_72, pr2_72, pr0_73, pr1_73, pr2_73, pr0_74, pr1_74, pr2_74, pr0_75, pr1_75, pr2_75, pr0_76, pr1_76, pr2_76, pr0_77, pr1_77, pr2_77, pr0_78, pr1_78, pr2_78, pr0_79, pr1_79, pr2_79, pr0_80, pr1_80, pr2_80, pr0_81, pr1_81, pr2_81, pr0_82, pr1_82, pr2_82, pr0_83, pr1_83, pr2_83, pr0_84, pr1_84, pr2_84, okF_tv, okF_no, okF_n1, okF_i, okLi, okOv, ok33] <;> assumption) | decide | (simp only [mkN_nn, mkN_fl, sX_fl, sX_nn, List.length_append, List.length_cons, List.length_nil, List.length_map]; omega) | (dsimp only; omega)) only [ab_ok, emk, ma17, og_ok]
          generalize hq : ((labV tk ps.1, (fk, .int (labV tk ps.1), tv v, no, nI ps.1)) : Int32 × TR) = q
          have q1 : q.1 = labV tk ps.1 := by rw [← hq]
          have q2 : q.2 = (fk, .int (labV tk ps.1), tv v, no, nI ps.1) := by rw [← hq]
          have es : insF (labV tk ps.1) (fk, .int (labV tk ps.1), tv v, no, nI ps.1) (srt items) = srt (items ++ [q]) := by rw [srt_snoc, q1, q2]
          have ep : base ++ fvs items ++ [tv (fk, .int (labV tk ps.1), tv v, no, nI ps.1)] = base ++ fvs (items ++ [q]) := by rw [← q2]; simp [fvs]
          have hR' : FldR (items ++ [q]) := by
            refine ⟨fun x hx => ?_, fun x hx => ?_⟩
            · rcases List.mem_append.mp hx with hx | hx
              · exact hR.1 x hx
              · rw [List.mem_singleton.mp hx, q1, q2]
                refine ⟨rfl, ?_⟩
                dsimp only; rcases hfk with e | e | e <;> rw [e] <;> decide
            · rcases List.mem_append.mp hx with hx | hx
              · exact hR.2 x hx
              · rw [List.mem_singleton.mp hx, q1]
                exact lab_R ht hl
          have gg : PG tk ps ps3 := PG.trans (PGe.trans (PG.one hps hlt).e (PG.one (ps := (ps.1 + 1, ps.2)) hps hlt2).e) g3
          have hl' : fSm ((o, base ++ fvs (items ++ [q])), g) = o + (base.length + (items.length + 1)) + g.1 + g.2.length := by simp [fSm]
          rw [es, ep]
          have hP4 : PRM tk ps3 ((o, base ++ fvs (items ++ [q])), g) (mkN j3 1) (n + 1) := hP3.mkf ((jfm.rf (W := W) _).mk _) (by rw [hl', mkN_nn]; omega)
          rw [m_eatB (by omega) hP4, ab_ok]
          cases hc : sg tk ps3.1 39 with
          | true =>
            have hlt3 : ps3.1 < Tn tk := sg_lt hc
            rw [pb_at (p' := pFlds tk fk s val M (srt (items ++ [q]))) (ps' := (ps3.1 + 1, ps3.2)) (by simp only [hc, if_true]), if_pos rfl, if_pos rfl]
            refine ih M (items ++ [q]) (ps3.1 + 1, ps3.2) (mkN j3 1) j0 _ K B0 C0 B1 B F (by omega) (hP4.one hlt3) (hj3.mk _) hR' (by rw [mkN_nn]; simp; omega) (by simpa [va_up] using h2) fun items' ps' j' LV' r1 r2 r3 r4 r5 r6 r7 => ?_
            exact hK items' ps' j' LV' (PG.trans (PGe.trans gg.e (PG.one gg.2.2.2.2 hlt3).e) r1) r2 r3 r4 r5 (by rw [r6]; simp [va_up]) (by rw [r7]; simp [va_up])
          | false =>
            rw [pb_val (v := srt (items ++ [q])) (ps' := ps3) (by simp only [hc, Bool.false_eq_true, if_false]), if_neg (by decide), if_neg (by decide)]
            exact hK (items ++ [q]) ps3 (mkN j3 1) _ gg (hj3.mk _) hR' (by rw [mkN_nn]; simp; omega) (by rw [hl', mkN_nn]; omega) (by simp [va_up]) (by simp [va_up])
/-- a record, of whatever kind -/
def pRec0 (tk : TK) (fk s k : Int32) (val : PA TR) : PA TR := fun ps =>
  pEnter (pAdv tk fun ps1 => pb (fun ps1 => if sg tk ps1.1 38 = true then some (.inl ([], ps1)) else pFlds tk fk s val LF [] ps1) (fun l => pNeed tk 38 (pLeave fun ps2 => some (.inl ((k, tLi (l.map (·.2)), no, no, nI ps.1), ps2)))) ps1) ps
theorem m_rec0 {fk s k : Int32} {val : PA TR} {tg c : Nat} (hn : max c 5 ≤ n) (hfk : fk = 13 ∨ fk = 34 ∨ fk = 52) (hk : k = 12 ∨ k = 51) (hpg : PGr tk val) (hv : CoM W tv tk c 30 tg [] val) (hP : PRM tk ps f j (n + 1)) (hB : j.nn + 100 * (Tn tk - ps.1) ≤ B + 60) :
    CTm W tv tk f j B (run [(zSeq (zSet 1 (aF 13)) (zSeq (zEx (aCall (aM n) 15 [])) (zSeq (zOpF oAdd 13 (aK 1)) (zSeq (zSet 2 (aSz 17)) (zSeq (zIf (bNot (bZ .ne (aCall (aM n) 6 [(aK 38)]))) (zDo LN (zSeq (zSet 3 (aF 13)) (zSeq (zEx (aCall (aM n) 30 [(aL 2)])) (zSeq (zSet 4 (aCall (aM n) 32 [])) (zSeq (zEx (aCall (aM n) 33 [(aK s)])) (zAdd 17 (aCall (aM n) 16 [(aK fk), (aL 4), (aCall (aM n) tg []), (aK (-1)), (aL 3)])))))) (bZ .ne (aCall (aM n) 9 [(aK 39)]))) zSkip) (zSeq (zEx (aCall (aM n) 33 [(aK 38)])) (zSeq (zOpF oSub 14 (aK 1)) (zSeq (zEx (aCall (aM n) 40 [(aL 2)])) (zRet (aCall (aM n) 16 [(aK k), (aCall (aM n) 42 [(aL 2)]), (aK (-1)), (aK (-1)), (aL 1)]))))))))))] nk LV (stM ps f j)) (pRec0 tk fk s k val ps) := by
  obtain ⟨⟨o, base⟩, g⟩ := f
  obtain ⟨ht, hT, hps, ha, ho, hfr, hS⟩ := id hP
  have hA : ALM = 30000 := rfl
  unfold pRec0
  rw [run_seq, run_set, aF_e, kS_ok, sM_f13, run_seq, run_ex, aCall_nil, kE_ab]
  refine ctm_enter (by omega) hP (jfm.rf j) fun hop => ?_
  refine ctm_adv fun hlt => ?_
  have hlt : ps.1 < Tn tk := hlt
  have hP1 := hP.op hop hlt
  obtain ⟨_, _, _, ha1, _, _, hS1⟩ := id hP1
  rw [run_seq, run_opF, aK_e, kOF_ok, sM_f13, show oAdd (nI ps.1) 1 = nI (ps.1 + 1) from nI_1 _, sM_p13, run_seq, run_set, aSz_e, kS_ok, sM_R17, sM_o17, run_seq, run_if, bNot_e (mS n (by omega) ht hT ha1 38)]
  have fin : ∀ (items : List (Int32 × TR)) (ps2 : PS) (j2 : AS) (L : AL), PGe tk (ps.1 + 1, ps.2.1 + 1, ps.2.2) ps2 → jfm W j j2 → FldR items → j2.nn + 100 * (Tn tk - ps2.1) + 50 * items.length ≤ j.nn + 100 * (Tn tk - (ps.1 + 1)) → fSm ((o, base ++ fvs items), g) + j2.nn + 8 * (n + 1) + 100 * (Tn tk - ps2.1) ≤ 29000 → L 1 = .int (nI ps.1) → L 2 = .int (nI (o + base.length)) →
      CTm W tv tk ((o, base), g) j B (run [zSeq (zEx (aCall (aM n) 33 [(aK 38)])) (zSeq (zOpF oSub 14 (aK 1)) (zSeq (zEx (aCall (aM n) 40 [(aL 2)])) (zRet (aCall (aM n) 16 [(aK k), (aCall (aM n) 42 [(aL 2)]), (aK (-1)), (aK (-1)), (aL 1)]))))] nk L (stM ps2 ((o, base ++ fvs items), g) j2)) (pNeed tk 38 (pLeave fun ps2 => some (.inl ((k, tLi ((srt items).map (·.2)), no, no, nI ps.1), ps2))) ps2) := by
    intro items ps2 j2 L g2 hj2 hR hB2 hS2 l1 l2
    have hP2 : PRM tk ps2 ((o, base ++ fvs items), g) j2 (n + 1) := hP1.nxe g2 hj2 hS2
    rw [run_seq, run_ex, aCall_1, aK_e, ab_ok, kE_ab]
    refine ctm_need (by omega) hP2 hj2 fun hlt2 => ?_
    have o2 := g2.2.2.1
    dsimp only at o2
    have e14 : nI ps2.2.1 - 1 = nI (ps2.2.1 - 1) := nI_sub1 (by omega)
    have hil : fSm ((o, base ++ fvs items), g) = o + (base.length + items.length) + g.1 + g.2.length := by simp [fSm]
    have hsl : (srt items).length = items.length := by
      have := srt_len items
      exact this
    have e40 := m_sort (m := n) (ps := (ps2.1 + 1, ps2.2.1 - 1, ps2.2.2)) (j := j2) (o := o) (base := base) (items := items) (g := g) (by omega) hR (by omega) (by omega)
    have efv : base ++ fvs (srt items) = base ++ ((srt items).map (·.2)).map tv := by simp [fvs]
    have e42 := m_list (m := n) (ps := (ps2.1 + 1, ps2.2.1 - 1, ps2.2.2)) (j := j2) (o := o) (base := base) (items := (srt items).map (·.2)) (g := g) (by omega) (by simp; omega) (by simp; omega) (by simp; omega)
    rw [← efv] at e42
    have okl := okLi ((srt items).map (·.2))
    have emk : aM n 16 [.int k, tLi ((srt items).map (·.2)), .int (-1), .int (-1), .int (nI ps.1)] (stM (ps2.1 + 1, ps2.2.1 - 1, ps2.2.2) ((o, base), g) (mkN j2 ((srt items).map (·.2)).length)) = some (some (tv (k, tLi ((srt items).map (·.2)), no, no, nI ps.1)), stM (ps2.1 + 1, ps2.2.1 - 1, ps2.2.2) ((o, base), g) (mkN (mkN j2 ((srt items).map (·.2)).length) 1)) := by
      rcases hk with e | e <;> subst e
      · exact m_make (by omega) (by rw [mkN_nn]; simp; omega) (by decide) okl rfl rfl
      · exact m_make (by omega) (by rw [mkN_nn]; simp; omega) (by decide) okl rfl rfl
    simp only [run_seq, run_opF, run_ex, run_ret, kOF_ok, aCall, aArgs, aK, aL, ab_ok, A0of, va_up, List.length_nil, List.length_cons, List.getD_cons_zero, List.getD_cons_succ, List.getD_nil, if_true, if_false, Bool.not_not, Bool.not_true, Bool.not_false, Bool.false_eq_true, reduceIte, Nat.reduceSub, Nat.reduceAdd, Nat.reduceEqDiff, sM_f13, sM_f14, sM_f11, sM_f19, sM_f20, sM_f21, sM_R17, sM_R18, sM_R4, sM_R5, sM_o17, sM_o18, sM_o4, sM_o5, sM_nn, sM_fl, sM_p13, sM_p14, sM_p11, sM_p17, sM_p18, sM_p19, sM_p20, sM_p21, nI_1, nI_pred, l1, l2, e14, oSub, e40, kE_ok, e42, emk]
    refine ctm_ret (ps := (ps2.1 + 1, ps2.2.1 - 1, ps2.2.2)) ((hj2.mk _).mk _) ?_
    simp only [mkN_nn, List.length_map]
    omega
  have psfx : (fun k => k) = (fun k : Nat => k) := rfl
  cases h38 : sg tk (ps.1 + 1) 38 with
  | true =>
    rw [pb_val (v := []) (ps' := (ps.1 + 1, ps.2.1 + 1, ps.2.2)) (by simp only [h38, if_true]), Bool.not_true, kI_f, run_skip]
    have := fin [] (ps.1 + 1, ps.2.1 + 1, ps.2.2) j (va_up (va_up LV 1 (.int (nI ps.1))) 2 (.int (nI (o + base.length)))) (PGe.rf hps hlt) (jfm.rf j) ⟨fun _ h => absurd h (by simp), fun _ h => absurd h (by simp)⟩ (by simp) (by simpa using hS1) rfl rfl
    simpa [fvs, srt] using this
  | false =>
    rw [Bool.not_false, kI_t, run_rn, pb_at (p' := pFlds tk fk s val LF (srt [])) (ps' := (ps.1 + 1, ps.2.1 + 1, ps.2.2)) (by simp only [h38, Bool.false_eq_true, if_false]; rfl)]
    have hP1' : PRM tk (ps.1 + 1, ps.2.1 + 1, ps.2.2) ((o, base ++ fvs []), g) j (n + 1) := by simpa [fvs] using hP1
    have := m_flds (em := tv) (fo := ((o, base), g)) hn hfk hpg hv (s := s) LN LF [] (ps.1 + 1, ps.2.1 + 1, ps.2.2) j j (va_up (va_up LV 1 (.int (nI ps.1))) 2 (.int (nI (o + base.length)))) (run [zSeq (zEx (aCall (aM n) 33 [(aK 38)])) (zSeq (zOpF oSub 14 (aK 1)) (zSeq (zEx (aCall (aM n) 40 [(aL 2)])) (zRet (aCall (aM n) 16 [(aK k), (aCall (aM n) 42 [(aL 2)]), (aK (-1)), (aK (-1)), (aL 1)]))))] nk) nk nk (j.nn + 100 * (Tn tk - (ps.1 + 1))) B (fun l => pNeed tk 38 (pLeave fun ps2 => some (.inl ((k, tLi (l.map (·.2)), no, no, nI ps.1), ps2)))) (by decide) hP1' (jfm.rf j) ⟨fun _ h => absurd h (by simp), fun _ h => absurd h (by simp)⟩ (by simp) rfl fun items ps' j' LV' r1 r2 r3 r4 r5 r6 r7 => fin items ps' j' LV' r1.e r2 r3 r4 r5 r6 r7
    simpa [fvs] using this
end MRC
