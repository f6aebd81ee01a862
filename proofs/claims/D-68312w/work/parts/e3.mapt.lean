/-! M: atomic patterns -/
section MAP
variable {α β : Type} {W : Bool} {em : α → V} {em2 : β → V} {tk : TK} {f f1 f' fo : FM} {j j1 j' j0 : AS} {B B1 : Nat} {r : Option (Option V × AS)} {ps ps' : PS} {m n k k' : Nat} {LV : AL}
theorem m_sepsP {pat : PA TR} {c o : Nat} {base : List V} {g : Nat × List V} (hpg : PGr tk pat) (hpt : CoP W tk c 30 18 [] pat) (hn : max c 3 ≤ n) (N : Nat) :
    ∀ (M : Nat) (don : List TR) (ps : PS) (j j0 : AS) (LV : AL) (K B0 C0 : KT) (B1 B : Nat) (F : TR → List TR → PA α), M + 1 ≤ N → PRM tk ps ((o, base ++ don.map tv), g) j (n + 1) → jfm W j0 j → j.nn + 100 * (Tn tk - ps.1) ≤ B1 →
    (∀ t ts ps' j', PG tk ps ps' → jfm W j0 j' → j'.nn + 100 * (Tn tk - ps'.1) + 30 * (ts.length + 1) ≤ B1 → fSm ((o, base ++ (don ++ t :: ts).map tv), g) + j'.nn + 8 * (n + 1) + 100 * (Tn tk - ps'.1) ≤ 29000 → CTm W em tk fo j0 B (K LV (stM ps' ((o, base ++ (don ++ t :: ts).map tv), g) j')) (F t ts ps')) →
    (∀ row ps' j', ps'.1 ≤ Tn tk → TKM tk j' → jfm W j0 j' → sg tk ps'.1 4 = true → CTm W em tk fo j0 B (K LV (stM ps' ((o, row), g) j')) (pflt 1 ps')) →
    CTm W em tk fo j0 B (rn (zDo N (zAdd 17 (aCall (aM n) 18 [])) (bZ .ne (aCall (aM n) 9 [(aK 39)])) LV (stM ps ((o, base ++ don.map tv), g) j)) K B0 C0) (pb pat (fun t => pb (pSeps tk 39 pat M) fun ts => F t ts) ps) := by
  induction N with
  | zero =>
    intro M don ps j j0 LV K B0 C0 B1 B F hM
    omega
  | succ N ih =>
    intro M don ps j j0 LV K B0 C0 B1 B F hM hP hj hB hK hb
    obtain ⟨ht, hT, hps, ha, ho, hfr, hS⟩ := id hP
    have hA : ALM = 30000 := rfl
    have hlen : o + (base ++ don.map tv).length < ALM := by simp only [fSm] at hS; omega
    rw [rn_do, rn_add, aCall_nil]
    refine ctm_stP hpt hpg (by omega) (by omega) hP hj (fun t ps' j' q1 hP0 q2 q3 => ?_) (fun v ps3 j3 c1 c2 c3 c4 c5 => ?_)
    · have hl : fSm ((o, base ++ (don ++ [t]).map tv), g) = fSm ((o, base ++ don.map tv), g) + 1 := by simp [fSm]; omega
      have hP1 : PRM tk ps' ((o, base ++ (don ++ [t]).map tv), g) j' (n + 1) := hP.nx q1 (hj.l q2) (by rw [hl]; omega)
      rw [ma17 hlen, og_ok, show base ++ don.map tv ++ [tv t] = base ++ (don ++ [t]).map tv by simp, m_eatB (by omega) hP1, ab_ok]
      cases M with
      | zero => exact trivial
      | succ M =>
        cases hc : sg tk ps'.1 39 with
        | true =>
          have hlt : ps'.1 < Tn tk := sg_lt hc
          rw [pb_at (p' := pb pat fun t => pb (pSeps tk 39 pat M) fun ts => pret (t :: ts)) (ps' := (ps'.1 + 1, ps'.2)) (by simp only [pSeps, hc, if_true]), pb_pb, if_pos rfl, if_pos rfl]
          have e : ∀ u, pb (pb (pSeps tk 39 pat M) fun ts => pret (u :: ts)) (fun ts => F t ts) = pb (pSeps tk 39 pat M) fun ts => F t (u :: ts) := by
            intro u
            rw [pb_pb]
            rfl
          simp only [e]
          refine ih M (don ++ [t]) (ps'.1 + 1, ps'.2) j' j0 LV K B0 C0 (B1 - 30) B (fun u ts => F t (u :: ts)) (by omega) (hP1.one hlt) q2 (by dsimp only; omega) (fun u ts ps'' j'' r1 r3 r4 r5 => ?_) hb
          have := hK t (u :: ts) ps'' j'' (PG.trans (PGe.trans q1.e (PG.one q1.2.2.2.2 hlt).e) r1) r3 (by simp; omega) (by simpa using r5)
          simpa using this
        | false =>
          rw [pb_val (v := []) (ps' := ps') (by simp only [pSeps, hc, Bool.false_eq_true, if_false]), if_neg (by decide), if_neg (by decide)]
          exact hK t [] ps' j' q1 q2 (by simp; omega) (by rw [show don ++ t :: [] = don ++ [t] from rfl, hl]; omega)
    · have c6 : sg tk ps3.1 39 = false := sg_ne c4 (by decide)
      have em := m_eat (m := n) (f := ((o, base ++ don.map tv ++ [tv v]), g)) (by omega) ht c2 c1 39
      rw [c6, if_neg (by decide)] at em
      rw [ma17 hlen, og_ok, bZn_e (x := false) (by rw [aCall_1, aK_e, ab_ok]; exact em), ab_ok, if_neg (by decide)]
      exact hb _ ps3 j3 c1 c2 c3 c4
/-- brackets of either kind -/
def tBE (q : Bool) (l : List TR) (p : Int32) : TR := if q then (match l with | [t] => t | l => tBr true l p) else tChain true p l
def pBE (tk : TK) (q : Bool) (pat : PA TR) : PA TR := fun ps =>
  pEnter (pAdv tk fun ps1 => pb (fun ps1 => if sg tk ps1.1 (if q then 34 else 36) = true then some (.inl ([], ps1)) else pb pat (fun t => pb (pSeps tk 39 pat LF) fun ts => pret (t :: ts)) ps1) (fun l => pNeed tk (if q then 34 else 36) (pLeave (pret (tBE q l (nI ps.1))))) ps1) ps
theorem elms_BE {pat : PA TR} : pElms tk true pat = pBE tk false pat := rfl
theorem seps_ne {s : Int32} {p : PA TR} {M : Nat} {G1 G2 : List TR → PA α} (h : sg tk ps.1 s = true) (hG : ∀ t ts, G1 (t :: ts) = G2 (t :: ts)) : pb (pSeps tk s p (M + 1)) G1 ps = pb (pSeps tk s p (M + 1)) G2 ps := by
  have e : pSeps tk s p (M + 1) ps = pb p (fun t => pb (pSeps tk s p M) fun ts => pret (t :: ts)) (ps.1 + 1, ps.2) := by simp only [pSeps, h, if_true]
  rw [pb_at e, pb_at e, pb_pb, pb_pb]
  congr 1
  funext t
  rw [pb_pb, pb_pb]
  congr 1
  funext ts
  exact hG t ts
theorem seps_stop {s : Int32} {p : PA TR} (h : sg tk ps.1 s = false) : pSeps tk s p LF ps = some (.inl ([], ps)) := by
  show (if sg tk ps.1 s = true then _ else _) = _
  rw [if_neg (by rw [h]; decide)]
theorem brk_BE {pat : PA TR} : pBrk tk true pat = pBE tk true pat := by
  funext ps
  unfold pBrk pBE
  congr 2
  funext ps1
  cases h34 : sg tk ps1.1 34 with
  | true =>
    rw [if_pos rfl, pb_val (v := []) (ps' := ps1) (by simp only [h34, if_true])]
    rfl
  | false =>
    rw [if_neg (by decide), pb_at (p' := pb pat (fun t => pb (pSeps tk 39 pat LF) fun ts => pret (t :: ts))) (ps' := ps1) (by simp only [h34, Bool.false_eq_true, if_true, if_false]), pb_pb]
    congr 1
    funext t ps2
    rw [pb_pb]
    cases h39 : sg tk ps2.1 39 with
    | true =>
      rw [if_pos rfl]
      exact seps_ne h39 (fun u ts => rfl)
    | false =>
      rw [if_neg (by decide), pb_val (v := []) (ps' := ps2) (seps_stop h39)]
      simp only [Bool.not_true, Bool.and_false, Bool.false_eq_true, if_false]
      rfl
theorem m_brkP {pat : PA TR} {c : Nat} {q : Bool} (hpg : PGr tk pat) (hpt : CoP W tk c 30 18 [] pat) (hn : max c 5 + 1 ≤ n) (hP : PRM tk ps f j (n + 1)) (hB : j.nn + 100 * (Tn tk - ps.1) ≤ B + 60) (l1 : LV 1 = .int (nI ps.1)) (l2 : LV 2 = .int (if q then 34 else 36)) :
    CTm W tv tk f j B (run [(zSeq (zEx (aCall (aM n) 15 [])) (zSeq (zOpF oAdd 13 (aK 1)) (zSeq (zSet 3 (aSz 17)) (zSeq (zIf (bNot (bZ .ne (aCall (aM n) 6 [(aL 2)]))) (zDo LN (zAdd 17 (aCall (aM n) 18 [])) (bZ .ne (aCall (aM n) 9 [(aK 39)]))) zSkip) (zSeq (zEx (aCall (aM n) 33 [(aL 2)])) (zSeq (zOpF oSub 14 (aK 1)) (zSeq (zIf (bCmp .eq (aL 2) (aK 36)) (zRet (aCall (aM n) 48 [(aK 1), (aL 3), (aL 1)])) zSkip) (zRet (aIf (bCmp .eq (aSz 17) (aBin oAdd (aL 3) (aK 1))) (aPop 17) (aCall (aM n) 47 [(aK 33), (aL 3), (aL 1)]))))))))))] nk LV (stM ps f j)) (pBE tk q pat ps) := by
  obtain ⟨⟨o, base⟩, g⟩ := f
  obtain ⟨ht, hT, hps, ha, ho, hfr, hS⟩ := id hP
  have hA : ALM = 30000 := rfl
  generalize hcl : (if q then (34 : Int32) else 36) = cl at l2
  have hcl4 : ¬ (4 : Int32) = cl := by rw [← hcl]; cases q <;> decide
  unfold pBE
  rw [hcl, run_seq, run_ex, aCall_nil, kE_ab]
  refine ctm_enter (by omega) hP (jfm.rf j) fun hop => ?_
  refine ctm_adv fun hlt => ?_
  have hlt : ps.1 < Tn tk := hlt
  have hP1 := hP.op hop hlt
  obtain ⟨_, _, _, ha1, _, _, hS1⟩ := id hP1
  have e2 : ∀ L : AL, L 2 = .int cl → bNot (bZ .ne (aCall (aM n) 6 [(aL 2)])) L (stM (ps.1 + 1, ps.2.1 + 1, ps.2.2) ((o, base), g) j) = some (some (!sg tk (ps.1 + 1) cl), stM (ps.1 + 1, ps.2.1 + 1, ps.2.2) ((o, base), g) j) := by
    intro L h
    refine bNot_e (bZn_e ?_)
    rw [aCall_1, aL_e, h, ab_ok]
    exact m_is (by omega) ht hT ha1 cl
  rw [run_seq, run_opF, aK_e, kOF_ok, sM_f13, show oAdd (nI ps.1) 1 = nI (ps.1 + 1) from nI_1 _, sM_p13, run_seq, run_set, aSz_e, kS_ok, sM_R17, sM_o17, run_seq, run_if, e2 _ (by simpa [va_up] using l2)]
  have fin : ∀ (l : List TR) (ps2 : PS) (j2 : AS) (L : AL), PGe tk (ps.1 + 1, ps.2.1 + 1, ps.2.2) ps2 → jfm W j j2 → j2.nn + 100 * (Tn tk - ps2.1) + 30 * l.length ≤ j.nn + 100 * (Tn tk - (ps.1 + 1)) → fSm ((o, base ++ l.map tv), g) + j2.nn + 8 * (n + 1) + 100 * (Tn tk - ps2.1) ≤ 29000 → L 1 = .int (nI ps.1) → L 2 = .int cl → L 3 = .int (nI (o + base.length)) →
      CTm W tv tk ((o, base), g) j B (run [(zSeq (zEx (aCall (aM n) 33 [(aL 2)])) (zSeq (zOpF oSub 14 (aK 1)) (zSeq (zIf (bCmp .eq (aL 2) (aK 36)) (zRet (aCall (aM n) 48 [(aK 1), (aL 3), (aL 1)])) zSkip) (zRet (aIf (bCmp .eq (aSz 17) (aBin oAdd (aL 3) (aK 1))) (aPop 17) (aCall (aM n) 47 [(aK 33), (aL 3), (aL 1)]))))))] nk L (stM ps2 ((o, base ++ l.map tv), g) j2)) (pNeed tk cl (pLeave (pret (tBE q l (nI ps.1)))) ps2) := by
    intro l ps2 j2 L g2 hj2 hB2 hS2 l1 l2 l3
    have hP2 : PRM tk ps2 ((o, base ++ l.map tv), g) j2 (n + 1) := hP1.nxe g2 hj2 hS2
    have hfr2 := hP2.2.2.2.2.2.1
    have hil : fSm ((o, base ++ l.map tv), g) = o + (base.length + l.length) + g.1 + g.2.length := by simp [fSm]
    rw [hil] at hS2
    rw [run_seq, run_ex, aCall_1, aL_e, l2, ab_ok, kE_ab]
    refine ctm_need (by omega) hP2 hj2 fun hlt2 => ?_
    have o2 := g2.2.2.1
    dsimp only at o2
    have e14 : nI ps2.2.1 - 1 = nI (ps2.2.1 - 1) := nI_sub1 (by omega)
    rw [run_seq, run_opF, aK_e, kOF_ok, sM_f14, show oSub (nI ps2.2.1) 1 = nI (ps2.2.1 - 1) from e14, sM_p14, run_seq, run_if, bEq_e (i := cl) (by rw [aL_e, l2])]
    show CTm W tv tk ((o, base), g) j B _ (some (.inl (tBE q l (nI ps.1), (ps2.1 + 1, ps2.2.1 - 1, ps2.2.2))))
    cases q with
    | false =>
      have hc36 : cl = 36 := hcl.symm
      have e48 : aM n 48 [.int 1, .int (nI (o + base.length)), .int (nI ps.1)] (stM (ps2.1 + 1, ps2.2.1 - 1, ps2.2.2) ((o, base ++ l.map tv), g) j2) = some (some (tv (tChain true (nI ps.1) l)), stM (ps2.1 + 1, ps2.2.1 - 1, ps2.2.2) ((o, base), g) (mkN j2 (6 * l.length + 1))) := m_chain (q := true) (by omega) (by omega) (by omega) (by omega) (by dsimp only; omega)
      rw [hc36, decide_eq_true rfl, kI_t, run_ret]
      simp only [aCall, aArgs, aK, aL, ab_ok, l1, l3, e48]
      exact ctm_ret (v := tBE false l (nI ps.1)) (ps := (ps2.1 + 1, ps2.2.1 - 1, ps2.2.2)) (hj2.mk _) (by rw [mkN_nn]; dsimp only; omega)
    | true =>
      have hc34 : cl = 34 := hcl.symm
      rw [hc34, decide_eq_false (by decide), kI_f, run_skip, run_ret]
      cases l with
      | nil =>
        have e47 : aM n 47 [.int 33, .int (nI (o + base.length)), .int (nI ps.1)] (stM (ps2.1 + 1, ps2.2.1 - 1, ps2.2.2) ((o, base ++ ([] : List TR).map tv), g) j2) = some (some (tv (tTup 34 33 [] (nI ps.1))), stM (ps2.1 + 1, ps2.2.1 - 1, ps2.2.2) ((o, base), g) (mkN j2 (2 * 0 + 1))) := m_tuple (by omega) (by decide) (by decide) (by decide) (by simp) (by simp at hS2 ⊢; omega) (by simp; omega)
        have ec : bCmp .eq (aSz 17) (aBin oAdd (aL 3) (aK 1)) L (stM (ps2.1 + 1, ps2.2.1 - 1, ps2.2.2) ((o, base ++ ([] : List TR).map tv), g) j2) = some (some false, stM (ps2.1 + 1, ps2.2.1 - 1, ps2.2.2) ((o, base ++ ([] : List TR).map tv), g) j2) := by
          have d : decide (nI (o + (base ++ ([] : List TR).map tv).length) = nI (o + base.length + 1)) = false := decide_eq_false fun h => by
            have := nI_inj (by simp; omega) (by omega) h
            simp at this
          simp only [d10, eq_self, decide_true, decide_false, ti_b, b2i_t, b2i_f, aK, aL, aF, aSz, aBin, aDiv, aB, aAt, aNd, aArgs, aCall, aIf, bCmp, bZ, bAnd, bOr, bNot, bTT, bIf, ab_ok, ab_no, ab_none, ab_ab, ab_ite, aok_ok, aok_none, og_ok, og_none, vbin_i, vb8_i, vput_i, vI_i, cmp_i, hold_eq, hold_ne, hold_lt, hold_ge, hold_gt, hold_le, b2i_0, ss_b, ss_ite, oAdd, oSub, oMul, Option.bind_some, A0of, va_up, List.length_nil, List.length_cons, List.getD_cons_zero, List.getD_cons_succ, List.getD_nil, if_true, if_false, Bool.not_not, Bool.not_true, Bool.not_false, Bool.false_eq_true, reduceIte, Nat.reduceSub, Nat.reduceAdd, Nat.reduceEqDiff, sM_f13, sM_f14, sM_f11, sM_f19, sM_f20, sM_f21, sM_R17, sM_R18, sM_R4, sM_R5, sM_o17, sM_o18, sM_o4, sM_o5, sM_nn, sM_fl, l3, nI_1, d]
        unfold aIf
        rw [ec, ab_ok, if_neg (by decide)]
        simp only [aCall, aArgs, aK, aL, ab_ok, l1, l3, e47]
        exact ctm_ret (v := tBE true [] (nI ps.1)) (ps := (ps2.1 + 1, ps2.2.1 - 1, ps2.2.2)) (hj2.mk _) (by rw [mkN_nn]; simp at hB2; dsimp only; omega)
      | cons t ts =>
        simp only [List.length_cons] at hS2 hB2
        unfold aIf
        rw [m_one (o := o) (base := base) (t := t) (ts := ts) (by omega) 3 l3, ab_ok]
        cases ts with
        | nil =>
          rw [if_pos (by decide), show base ++ [t].map tv = base ++ [tv t] from rfl, mp17]
          exact ctm_ret (v := tBE true [t] (nI ps.1)) (ps := (ps2.1 + 1, ps2.2.1 - 1, ps2.2.2)) hj2 (by dsimp only; omega)
        | cons u ts =>
          have e47 := m_tuple (m := n) (ps := (ps2.1 + 1, ps2.2.1 - 1, ps2.2.2)) (j := j2) (o := o) (base := base) (items := t :: u :: ts) (fk := 34) (k := 33) (p := nI ps.1) (g := g) (by omega) (by decide) (by decide) (by decide) (by simp at hS2 ⊢; omega) (by simp at hS2 ⊢; omega) (by simp at hS2 hB2 ⊢; omega)
          rw [if_neg (by simp)]
          simp only [aCall, aArgs, aK, aL, ab_ok, l1, l3, e47]
          exact ctm_ret (v := tBE true (t :: u :: ts) (nI ps.1)) (ps := (ps2.1 + 1, ps2.2.1 - 1, ps2.2.2)) (hj2.mk _) (by simp at hB2; simp only [mkN_nn, List.length_cons]; omega)
  cases hz : sg tk (ps.1 + 1) cl with
  | true =>
    rw [pb_val (v := []) (ps' := (ps.1 + 1, ps.2.1 + 1, ps.2.2)) (by simp only [hz, if_true]), Bool.not_true, kI_f, run_skip]
    have := fin [] (ps.1 + 1, ps.2.1 + 1, ps.2.2) j (va_up LV 3 (.int (nI (o + base.length)))) (PGe.rf hps hlt) (jfm.rf j) (by simp) (by simpa using hS1) (by simpa [va_up] using l1) (by simpa [va_up] using l2) rfl
    simpa using this
  | false =>
    rw [Bool.not_false, kI_t, run_rn, pb_at (p' := pb pat (fun t => pb (pSeps tk 39 pat LF) fun ts => pret (t :: ts))) (ps' := (ps.1 + 1, ps.2.1 + 1, ps.2.2)) (by simp only [hz, Bool.false_eq_true, if_false]), pb_pb]
    have e : ∀ t, pb (pb (pSeps tk 39 pat LF) fun ts => pret (t :: ts)) (fun l => pNeed tk cl (pLeave (pret (tBE q l (nI ps.1))))) = pb (pSeps tk 39 pat LF) fun ts => pNeed tk cl (pLeave (pret (tBE q (t :: ts) (nI ps.1)))) := by
      intro t
      rw [pb_pb]
      rfl
    simp only [e]
    have hP1' : PRM tk (ps.1 + 1, ps.2.1 + 1, ps.2.2) ((o, base ++ ([] : List TR).map tv), g) j (n + 1) := by simpa using hP1
    have := m_sepsP (em := tv) (fo := ((o, base), g)) (o := o) (base := base) (g := g) hpg hpt (by omega) LN LF [] (ps.1 + 1, ps.2.1 + 1, ps.2.2) j j (va_up LV 3 (.int (nI (o + base.length)))) (run [(zSeq (zEx (aCall (aM n) 33 [(aL 2)])) (zSeq (zOpF oSub 14 (aK 1)) (zSeq (zIf (bCmp .eq (aL 2) (aK 36)) (zRet (aCall (aM n) 48 [(aK 1), (aL 3), (aL 1)])) zSkip) (zRet (aIf (bCmp .eq (aSz 17) (aBin oAdd (aL 3) (aK 1))) (aPop 17) (aCall (aM n) 47 [(aK 33), (aL 3), (aL 1)]))))))] nk) nk nk (j.nn + 100 * (Tn tk - (ps.1 + 1))) B (fun t ts => pNeed tk cl (pLeave (pret (tBE q (t :: ts) (nI ps.1))))) (by decide) hP1' (jfm.rf j) (Nat.le_refl _) (fun t ts ps2 j2 r1 r2 r3 r4 => fin (t :: ts) ps2 j2 _ r1.e r2 (by simp; omega) (by simpa using r4) (by simpa [va_up] using l1) (by simpa [va_up] using l2) rfl) (fun row ps' j' c1 c2 c3 c4 => ?_)
    · simpa using this
    · rw [run_seq, run_ex, aCall_1, aL_e, show va_up LV 3 (.int (nI (o + base.length))) 2 = LV 2 from rfl, l2, ab_ok, m_needF (by omega) ht c2 c4 hcl4, kE_no]
      exact ctm_flt c3
theorem m_atomicPattern {ty pat : PA TR} {c : Nat} (hpg : PGr tk pat) (hpt : CoP W tk c 30 18 [] pat) (htg : PGr tk ty) (hty : CoM W tv tk c 30 35 [] ty) : CoM W tv tk (max c 5 + 3) 60 25 [] (pApat tk ty pat) := by
  intro k ps f j B hk hP hB
  obtain ⟨n, rfl⟩ := suc1 (m := k) (by omega)
  obtain ⟨ht, hT, hps, ha, ho, hfr, hS⟩ := id hP
  have hA : ALM = 30000 := rfl
  refine ctm_gT ?_
  rw [eM_atomicPattern, zM_atomicPattern, amth_run, List.length_nil, if_pos rfl, fin_ok, run_seq, run_set, aF_e, kS_ok, sM_f13, run_seq, run_if, aCall0_b (m_isC (by omega) ht hT ha)]
  cases hc : cstB tk ps.1 with
  | true =>
    have hlt : ps.1 < Tn tk := cst_lt hc
    have hL : ∀ A, aL 1 (va_up (A0of true []) 1 (.int (nI ps.1))) A = some (some (.int (nI ps.1)), A) := fun _ => rfl
    have e1 := mAt1 (ps := (ps.1 + 1, ps.2)) (f := f) ht hT hlt (hL (stM (ps.1 + 1, ps.2) f j))
    have emk := m_make (m := n) (ps := (ps.1 + 1, ps.2)) (f := f) (j := j) (k := 31) (p := nI ps.1) (a := .int (vAt tk ps.1)) (b := .int (-1)) (c := .int (-1)) (by omega) (by omega) (by decide) rfl rfl rfl
    have e5 : aCall (aM n) 16 [(aK 31), (aAt 1 (aL 1)), (aK (-1)), (aK (-1)), (aL 1)] (va_up (A0of true []) 1 (.int (nI ps.1))) (stM (ps.1 + 1, ps.2) f j) = some (some (tv (31, .int (vAt tk ps.1), no, no, nI ps.1)), stM (ps.1 + 1, ps.2) f (mkN j 1)) := by
      unfold aCall aArgs
      rw [aK_e, ab_ok]
      unfold aArgs
      rw [e1, ab_ok]
      exact emk
    rw [kI_t, run_seq, run_opF, aK_e, kOF_ok, sM_f13, show oAdd (nI ps.1) 1 = nI (ps.1 + 1) from nI_1 _, sM_p13, run_ret, e5]
    exact ctm_ret (ps := (ps.1 + 1, ps.2)) ((jfm.rf j).mk _) (by rw [mkN_nn]; dsimp only; omega)
  | false =>
    rw [kI_f, run_skip, run_seq, run_if, aCall0_b (m_isId (by omega) ht hT ha hps), if_neg (by decide)]
    cases hid : idB tk ps with
    | true =>
      have hk1 : (!decide (kAt tk ps.1 = 1) || sg tk ps.1 22) = true := by
        unfold idB at hid
        cases h22 : sg tk ps.1 22 with
        | true => simp
        | false =>
          rw [h22, Bool.or_false] at hid
          rcases (Bool.or_eq_true _ _).mp hid with h | h
          · have hn := ((Bool.and_eq_true _ _).mp h).1
            unfold nmB at hn
            rcases (Bool.or_eq_true _ _).mp hn with h | h <;> rw [of_decide_eq_true h] <;> decide
          · rw [of_decide_eq_true h]; decide
      rw [kI_t, if_pos hk1, pIdent_id hid, run_seq, run_set, aCall_1, aK_e, ab_ok, kS_ab]
      refine ctm_id (q := true) (by omega) hP (jfm.rf j) fun v a _ q1 q2 q3 hj1 hT1 => ?_
      have hfr1 : (a, ps.2).2.2.1 < 2 ^ 30 := by dsimp only; omega
      have emk := m_makeN (m := n) (ps := (a, ps.2)) (f := f) (j := apF j 19 v.2) (k := 32) (i := v.1) (p := nI ps.1) (b := .int v.2) (c := .int (-1)) (by omega) (show j.nn < ALM by omega) (by decide) q3 hfr1 rfl rfl
      have e19 : ∀ L : AL, aF 19 L (stM (a, ps.2) f (apF j 19 v.2)) = some (some (.int v.2), stM (a, ps.2) f (apF j 19 v.2)) := by
        intro L
        rw [aF_e, sM_f19]
        rfl
      rw [run_ret]
      have e5 : ∀ L : AL, L 1 = .int (nI ps.1) → L 2 = .int v.1 → aCall (aM n) 16 [(aK 32), (aL 2), (aF 19), (aK (-1)), (aL 1)] L (stM (a, ps.2) f (apF j 19 v.2)) = some (some (tv (32, .int v.1, .int v.2, no, nI ps.1)), stM (a, ps.2) f (mkN (apF j 19 v.2) 1)) := by
        intro L l1 l2
        unfold aCall
        simp only [aArgs, e19, aK_e, aL_e, ab_ok, l1, l2, emk]
      rw [e5 _ rfl rfl]
      exact ctm_ret (v := ((32, .int v.1, .int v.2, no, nI ps.1) : TR)) (ps := (a, ps.2)) (hj1.mk _) (by rw [mkN_nn]; show j.nn + 1 + _ ≤ B; dsimp only; omega)
    | false =>
      have h22 : sg tk ps.1 22 = false := by
        unfold idB at hid
        cases h : sg tk ps.1 22 with
        | false => rfl
        | true => rw [h, Bool.or_true] at hid; cases hid
      have heat := m_eatB (n := n) (by omega) hP 43
      rw [kI_f, run_skip, run_seq, run_if, heat]
      by_cases hk1 : kAt tk ps.1 = 1
      · have hlt : ps.1 < Tn tk := k_lt (by rw [hk1]; decide)
        have hsg : ∀ s : Int32, sg tk ps.1 s = decide (vAt tk ps.1 = s) := fun s => by unfold sg; rw [decide_eq_true hk1, Bool.true_and]
        rw [if_neg (show ¬ (!decide (kAt tk ps.1 = 1) || sg tk ps.1 22) = true by rw [decide_eq_true hk1, h22]; decide)]
        by_cases h43 : vAt tk ps.1 = 43
        · have emk : aM n 16 [.int 30, .int (-1), .int (-1), .int (-1), .int (nI ps.1)] (stM (ps.1 + 1, ps.2) f j) = some (some (tv (tWild (nI ps.1))), stM (ps.1 + 1, ps.2) f (mkN j 1)) := m_make (by omega) (by omega) (by decide) rfl rfl rfl
          rw [hsg 43, decide_eq_true h43, if_pos rfl, kI_t, if_pos h43, run_ret]
          simp only [aCall, aArgs, aK, aL, ab_ok, A0of, va_up, List.length_nil, List.length_cons, List.getD_cons_zero, List.getD_cons_succ, List.getD_nil, if_true, if_false, Bool.not_not, Bool.not_true, Bool.not_false, Bool.false_eq_true, reduceIte, Nat.reduceSub, Nat.reduceAdd, Nat.reduceEqDiff, emk]
          exact ctm_ret (ps := (ps.1 + 1, ps.2)) ((jfm.rf j).mk _) (by rw [mkN_nn]; dsimp only; omega)
        · rw [hsg 43, decide_eq_false h43, if_neg (show ¬ false = true by decide), kI_f, run_skip, if_neg h43, run_seq, run_if, mS n (by omega) ht hT ha 37, hsg 37]
          by_cases h37 : vAt tk ps.1 = 37
          · rw [decide_eq_true h37, kI_t, if_pos h37, run_ret, aCall_nil]
            exact m_recordPattern hpg hpt htg hty n ps f j B (by omega) hP.dn hB
          · rw [decide_eq_false h37, kI_f, run_skip, if_neg h37, run_seq, run_if, bAnd_e (bNot_e (mS n (by omega) ht hT ha 33)) (bNot_e (mS n (by omega) ht hT ha 35)), hsg 33, hsg 35]
            by_cases h33 : vAt tk ps.1 = 33
            · rw [decide_eq_true h33, Bool.not_true, Bool.false_and, kI_f, run_skip, if_pos h33, brk_BE, run_seq, run_set]
              have e2 : ∀ L : AL, aIf (bZ .ne (aCall (aM n) 6 [(aK 33)])) (aK 34) (aK 36) L (stM ps f j) = some (some (.int 34), stM ps f j) := by
                intro L
                unfold aIf
                rw [mS n (by omega) ht hT ha 33, hsg, decide_eq_true h33]
                rfl
              rw [e2, kS_ok]
              exact m_brkP (q := true) hpg hpt (by omega) hP hB rfl rfl
            · rw [decide_eq_false h33, Bool.not_false, Bool.true_and, if_neg h33]
              by_cases h35 : vAt tk ps.1 = 35
              · rw [decide_eq_true h35, Bool.not_true, kI_f, run_skip, if_pos h35, elms_BE, run_seq, run_set]
                have e2 : ∀ L : AL, aIf (bZ .ne (aCall (aM n) 6 [(aK 33)])) (aK 34) (aK 36) L (stM ps f j) = some (some (.int 36), stM ps f j) := by
                  intro L
                  unfold aIf
                  rw [mS n (by omega) ht hT ha 33, hsg, decide_eq_false h33]
                  rfl
                rw [e2, kS_ok]
                exact m_brkP (q := false) hpg hpt (by omega) hP hB rfl rfl
              · rw [decide_eq_false h35, Bool.not_false, kI_t, if_neg h35, run_ex, aCall_nil, m_stop (by omega), kE_no]
                exact ctm_flt (jfm.rf j)
      · have hsg : ∀ s : Int32, sg tk ps.1 s = false := fun s => by unfold sg; rw [decide_eq_false hk1, Bool.false_and]
        have hpi : pIdent tk 32 true ps = pflt 1 ps := by
          unfold idB at hid
          simp only [Bool.or_eq_false_iff] at hid
          obtain ⟨⟨x1, x2⟩, x3⟩ := hid
          unfold pIdent
          rw [if_neg (by rw [h22]; decide), if_neg (of_decide_eq_false x2), if_neg (by rw [x1]; decide)]
        rw [if_pos (show (!decide (kAt tk ps.1 = 1) || sg tk ps.1 22) = true by rw [decide_eq_false hk1]; rfl), hpi, hsg 43, if_neg (show ¬ false = true by decide), kI_f, run_skip, run_seq, run_if, mS n (by omega) ht hT ha 37, hsg 37, kI_f, run_skip, run_seq, run_if, bAnd_e (bNot_e (mS n (by omega) ht hT ha 33)) (bNot_e (mS n (by omega) ht hT ha 35)), hsg 33, hsg 35, Bool.not_false, Bool.true_and, kI_t, run_ex, aCall_nil, m_stop (by omega), kE_no]
        exact ctm_flt (jfm.rf j)
end MAP
