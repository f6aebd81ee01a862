/-! M: constructors, datatypes, exceptions -/
section MDA
variable {α β : Type} {W : Bool} {em : α → V} {em2 : β → V} {tk : TK} {f f1 f' fo : FM} {j j1 j' j0 : AS} {B B1 a : Nat} {r : Option (Option V × AS)} {ps ps' : PS} {m n k k' : Nat} {LV : AL} {zs : List ZX} {ty pat E inf : PA TR} {c b : Nat}
theorem nm6 {x : Int32} (h0 : 0 ≤ x) : decide (x < 6) = (isProt x || decide (x = 5)) := by
  unfold isProt
  rw [decide_eq_true h0, Bool.true_and, ← Bool.decide_or, decide_eq_decide]
  rw [Int32.lt_iff_toInt_lt, Int32.le_iff_toInt_le, ← Int32.toInt_inj]
  have e4 : (4 : Int32).toInt = 4 := rfl
  have e5 : (5 : Int32).toInt = 5 := rfl
  have e6 : (6 : Int32).toInt = 6 := rfl
  rw [e4, e5, e6]
  omega
/-- a token that was just passed -/
theorem m_last (ht : tkOK tk) (hT : TKM tk j) (h : ps.1 < Tn tk) (L : AL) : aAt 1 (aBin oSub (aF 13) (aK 1)) L (stM (ps.1 + 1, ps.2) f j) = some (some (.int (vAt tk ps.1)), stM (ps.1 + 1, ps.2) f j) := by
  refine mAt1 ht hT h ?_
  simp only [d10, eq_self, decide_true, decide_false, ti_b, b2i_t, b2i_f, aK, aL, aF, aSz, aBin, aDiv, aB, aAt, aNd, aArgs, aCall, aIf, bCmp, bZ, bAnd, bOr, bNot, bTT, bIf, ab_ok, ab_no, ab_none, ab_ab, ab_ite, aok_ok, aok_none, og_ok, og_none, vbin_i, vb8_i, vput_i, vI_i, cmp_i, hold_eq, hold_ne, hold_lt, hold_ge, hold_gt, hold_le, b2i_0, ss_b, ss_ite, oAdd, oSub, oMul, Option.bind_some, A0of, va_up, List.length_nil, List.length_cons, List.getD_cons_zero, List.getD_cons_succ, List.getD_nil, if_true, if_false, Bool.not_not, Bool.not_true, Bool.not_false, Bool.false_eq_true, reduceIte, Nat.reduceSub, Nat.reduceAdd, Nat.reduceEqDiff, sM_f13, sM_f14, sM_f11, sM_f19, sM_f20, sM_f21, sM_R17, sM_R18, sM_R4, sM_R5, sM_o17, sM_o18, sM_o4, sM_o5, sM_nn, sM_fl, nI_pred]
theorem m_new : CoM W (fun i : Int32 => Term.int i) tk 5 90 85 [] (pNew tk) := by
  intro k ps f j B hk hP hB
  obtain ⟨n, rfl⟩ := suc1 (m := k) (by omega)
  obtain ⟨ht, hT, hps, ha, hop, hfr, hS⟩ := id hP
  rw [eM_bound, zM_bound, amth_run, List.length_nil, if_pos rfl, fin_ok, run_seq, run_set, aCall_1, aK_e, ab_ok, m_eat (by omega) ht hT ha 22, kS_ok]
  unfold pNew
  generalize hq : (if sg tk ps.1 22 = true then (ps.1 + 1, ps.2) else ps) = q
  have q1 : ps.1 ≤ q.1 ∧ q.1 ≤ Tn tk ∧ q.2 = ps.2 := by
    rw [← hq]
    cases h : sg tk ps.1 22 with
    | true => have := sg_lt h; exact ⟨Nat.le_succ _, this, rfl⟩
    | false => exact ⟨Nat.le_refl _, ha, rfl⟩
  clear hq
  obtain ⟨q1, q2, q3⟩ := q1
  dsimp only
  generalize hL : va_up (A0of true []) 1 (.int (b2i (sg tk ps.1 22))) = L
  have l1 : L 1 = .int (b2i (sg tk ps.1 22)) := by rw [← hL]; rfl
  have hfl6 : aCall (aM n) 11 [(aK 6), (aF 13)] L (stM q f j) = some (none, ftM (stM q f j) 6) := by
    rw [aCall_2, aK_e, ab_ok, aF_e, ab_ok, sM_f13, m_fail (by omega)]
    rfl
  have e2 : (bAnd (bZ .ne (aCall (aM n) 20 [])) (bCmp .lt (aAt 1 (aF 13)) (aK 6))) L (stM q f j) = some (some (nmB tk q.1 && (isProt (vAt tk q.1) || decide (vAt tk q.1 = 5))), stM q f j) := by
    have e := mN (LV := L) (ps := q) (f := f) n (by omega) ht hT q2
    cases hn : nmB tk q.1 with
    | false =>
      rw [hn] at e
      unfold bAnd
      rw [e]
      rfl
    | true =>
      rw [hn] at e
      obtain ⟨h1, h2, h3⟩ := nm_val ht hn
      refine bAnd_e e ?_
      unfold bCmp
      rw [mAt1 ht hT h1 mF13, ab_ok, aK_e, ab_ok, cmp_i, hold_lt, nm6 h2]
      rfl
  rw [run_seq, run_if, bOr_e (bAnd_e (bZn_e (by rw [aL_e, l1])) (mS n (by omega) ht hT q2 45)) e2]
  cases h45 : (sg tk ps.1 22 && sg tk q.1 45) with
  | true =>
    rw [Bool.true_or, kI_t, run_ex, hfl6, kE_no, if_pos rfl]
    exact ctm_flt (jfm.rf j)
  | false =>
    rw [Bool.false_or, if_neg (by decide)]
    cases hn : nmB tk q.1 with
    | false =>
      rw [Bool.false_and, kI_f, run_skip, run_seq, run_if, bNot_e (mN n (by omega) ht hT q2), hn, Bool.not_false, kI_t, run_ex, aCall_nil, m_stop (by omega), kE_no, if_pos rfl]
      exact ctm_flt (jfm.rf j)
    | true =>
      obtain ⟨h1, h2, h3⟩ := nm_val ht hn
      have h1' : q.1 < Tn tk := h1
      rw [Bool.true_and, if_neg (by decide)]
      cases hp : (isProt (vAt tk q.1) || decide (vAt tk q.1 = 5)) with
      | true =>
        rw [kI_t, run_ex, hfl6, kE_no, if_pos rfl]
        exact ctm_flt (jfm.rf j)
      | false =>
        rw [kI_f, run_skip, run_seq, run_if, bNot_e (mN n (by omega) ht hT q2), hn, Bool.not_true, kI_f, run_skip, if_neg (by decide), run_seq, run_opF, aK_e, kOF_ok, sM_f13, show oAdd (nI q.1) 1 = nI (q.1 + 1) from nI_1 _, sM_p13, run_ret, m_last ht hT h1]
        exact ctm_ret (em := fun i : Int32 => Term.int i) (ps := (q.1 + 1, q.2)) (jfm.rf j) (by dsimp only; omega)
/-- a type, where a sign says so -/
def pOpt (tk : TK) (s : Int32) (ty : PA TR) : PA (Option TR) := fun ps => if sg tk ps.1 s = true then pb ty (fun t => pret (some t)) (ps.1 + 1, ps.2) else some (.inl (none, ps))
theorem ctm_opt {s : Int32} {F : Option TR → PA β} {g : V → AS → Option (Option V × AS)} (htg : PGr tk ty) (hty : CoM W tv tk c 30 35 [] ty) (hn : max c 3 ≤ n) (hP : PRM tk ps f j (n + 1)) (hj : jfm W j0 j)
    (h : ∀ t ps' j', PGe tk ps ps' → PRM tk ps' f j' (n + 1) → jfm W j0 j' → j'.nn + 100 * (Tn tk - ps'.1) ≤ j.nn + 100 * (Tn tk - ps.1) → CTm W em2 tk fo j0 B (g (ov t) (stM ps' f j')) (F t ps')) :
    CTm W em2 tk fo j0 B (ab (aIf (bZ .ne (aCall (aM n) 9 [(aK s)])) (aCall (aM n) 35 []) (aK (-1)) LV (stM ps f j)) g) (pb (pOpt tk s ty) F ps) := by
  obtain ⟨ht, hT, hps, ha, hop, hfr, hS⟩ := id hP
  have e := m_eatB (n := n) (by omega) hP s LV
  cases hs : sg tk ps.1 s with
  | false =>
    rw [hs] at e
    rw [aIf_f e, aK_e, ab_ok, if_neg (by decide), pb_val (v := none) (ps' := ps) (by unfold pOpt; rw [hs, if_neg (by decide)])]
    exact h none ps j (PGe.rf hps ha) hP hj (Nat.le_refl _)
  | true =>
    have hlt : ps.1 < Tn tk := sg_lt hs
    rw [hs] at e
    rw [aIf_t e, aCall_nil, if_pos rfl, pb_at (p' := pb ty (fun t => pret (some t))) (ps' := (ps.1 + 1, ps.2)) (by unfold pOpt; rw [hs, if_pos rfl]), pb_pb]
    refine ctm_st hty htg (by omega) (by omega) (hP.one hlt) hj fun t ps1 j1 g1 hP1 hj1 hB1 => ?_
    dsimp only at hB1
    rw [pret_pb]
    exact h (some t) ps1 j1 (PGe.trans (PG.one hps hlt).e g1.e) hP1 hj1 (by omega)
theorem ctm_pbD {p : PA α} {F : α → PA β} (h : CTm W em2 tk f j B r (pb p F ps)) : CTm W em2 tk f j B r (pb (grD tk p) F ps) := by
  unfold pb grD at *
  cases hp : p ps with
  | none => exact trivial
  | some q =>
    rw [hp] at h
    match q, h with
    | .inr e, h => exact h
    | .inl (v, ps'), h =>
      dsimp only at h ⊢
      by_cases hg : PGe tk ps ps'
      · simp only [hg, if_true]
        exact h
      · simp only [hg, if_false]
        exact trivial
theorem aCall_3 (rec : ARC) (t : Nat) (a b c : AX) (L : AL) (A : AS) : aCall rec t [a, b, c] L A = ab (a L A) fun x A => ab (b L A) fun y A => ab (c L A) fun z A => rec t [x, y, z] A := by
  simp only [aCall, aArgs, ab_ab, ab_ok]
theorem aCall_5 (rec : ARC) (t : Nat) (a b c d e : AX) (L : AL) (A : AS) : aCall rec t [a, b, c, d, e] L A = ab (a L A) fun x A => ab (b L A) fun y A => ab (c L A) fun z A => ab (d L A) fun u A => ab (e L A) fun v A => rec t [x, y, z, u, v] A := by
  simp only [aCall, aArgs, ab_ab, ab_ok]
theorem m_conB {o : Nat} {base : List V} {g : Nat × List V} {w : V} (htg : PGr tk ty) (hty : CoM false tv tk c 30 35 [] ty) (hn : max c 5 ≤ n) :
    BodyD false tk n o base g (pCon1 tk ty) (fun L => L 1 = w) 80 (zSeq (zSet 2 (aF 13)) (zSeq (zSet 3 (aCall (aM n) 85 [])) (zAdd 17 (aCall (aM n) 16 [(aK 76), (aL 3), (aIf (bZ .ne (aCall (aM n) 9 [(aK 21)])) (aCall (aM n) 35 []) (aK (-1))), (aK (-1)), (aL 2)])))) := by
  intro α em fo F don ps j j0 LV K B0 C0 B hP hj hI hK
  obtain ⟨ht, hT, hps, ha, hop, hfr, hS⟩ := id hP
  have hA : ALM = 30000 := rfl
  have hlen : o + (base ++ don.map tv).length < ALM := by simp only [fSm] at hS; omega
  rw [rn_seq, rn_set, aF_e, ab_ok, sM_f13, rn_seq, rn_set, aCall_nil]
  rw [pb_at (p := pCon1 tk ty) (p' := pb (pNew tk) fun nm => pb (pOf tk ty) fun t => pret (76, .int nm, ov t, no, nI ps.1)) (ps' := ps) rfl, pb_pb]
  refine ctm_st m_new (pgg_new ht) (by omega) (by omega) hP hj fun nm ps1 j1 g1 hP1 hj1 hB1 => ?_
  rw [pb_pb, rn_add]
  simp only [aCall_5, aK_e, aL_e, ab_ok, ab_ab]
  refine ctm_pbD (ctm_opt (s := 21) htg hty (by omega) hP1 hj1 fun t ps3 j3 g3 hP3 hj3 hB3 => ?_)
  have hS3 := hP3.2.2.2.2.2.2
  have emk := m_make (m := n) (ps := ps3) (f := ((o, base ++ don.map tv), g)) (j := j3) (k := 76) (p := nI ps.1) (a := .int nm) (b := ov t) (c := .int (-1)) (by omega) (by omega) (by decide) rfl (okOv t) rfl
  simp only [ab_ok, va_up, Nat.reduceEqDiff, if_true, if_false, emk]
  rw [ma17 hlen, og_ok, pret_pb, show ∀ z : TR, base ++ don.map tv ++ [tv z] = base ++ (don ++ [z]).map tv by intro z; simp]
  exact hK (76, .int nm, ov t, no, nI ps.1) ps3 (mkN j3 1) _ (PG.trans' g1 g3) (hj3.mk _) (by rw [mkN_nn]; omega) (by simpa [va_up] using hI)
theorem m_constructors (htg : PGr tk ty) (hty : CoM false tv tk c 30 35 [] ty) : CoM false tLi tk (max (max c 5) 5 + 1) 70 84 [] (pCons tk ty) :=
  m_moreL (s := 44) (fun _ hn _ _ _ => m_conB htg hty hn) (by omega) (by omega) (fun n vs A => by rw [eM_constructors]; rfl)
theorem m_db1B {o : Nat} {base : List V} {g : Nat × List V} {w : V} (htg : PGr tk ty) (hty : CoM false tv tk c 30 35 [] ty) (hn : max c 5 + 1 ≤ n) :
    BodyD false tk n o base g (pDb1 tk ty) (fun L => L 4 = w) 90 (zSeq (zSet 5 (aF 13)) (zSeq (zSet 6 (aCall (aM n) 70 [(aK 1)])) (zSeq (zSet 7 (aCall (aM n) 82 [])) (zSeq (zEx (aCall (aM n) 33 [(aK 45)])) (zAdd 17 (aCall (aM n) 16 [(aK 75), (aL 6), (aL 7), (aCall (aM n) 84 []), (aL 5)])))))) := by
  intro α em fo F don ps j j0 LV K B0 C0 B hP hj hI hK
  obtain ⟨ht, hT, hps, ha, hop, hfr, hS⟩ := id hP
  have hA : ALM = 30000 := rfl
  have hlen : o + (base ++ don.map tv).length < ALM := by simp only [fSm] at hS; omega
  rw [rn_seq, rn_set, aF_e, ab_ok, sM_f13, rn_seq, rn_set, aCall_1, aK_e, ab_ok]
  rw [pb_at (p := pDb1 tk ty) (p' := pb (pTvs tk false) fun vs => pb (pShT tk) fun nm => pNeed tk 45 (pb (pCons tk ty) fun l => pret (75, tLi vs, .int nm, tLi l, nI ps.1))) (ps' := ps) rfl, pb_pb]
  refine ctm_ste (m_typeVariables (q := false)) pgh_grD (by omega) hP hj fun vs ps1 j1 g1 hP1 hj1 hB1 => ?_
  rw [pb_pb, rn_seq, rn_set, aCall_nil]
  refine ctm_st m_shT pgg_shT (by omega) (by omega) hP1 hj1 fun nm ps2 j2 g2 hP2 hj2 hB2 => ?_
  rw [pNeed_pb, rn_seq, rn_ex, aCall_1, aK_e, ab_ok]
  refine ctm_need (by omega) hP2 hj2 fun hl2 => ?_
  rw [pb_pb, rn_add]
  simp only [aCall_5, aCall_nil, aK_e, aL_e, ab_ok, ab_ab]
  refine ctm_st (m_constructors htg hty) pgg_grE (by omega) (by omega) (hP2.one hl2) hj2 fun l ps3 j3 g3 hP3 hj3 hB3 => ?_
  dsimp only at hB3
  have hS3 := hP3.2.2.2.2.2.2
  have emk := m_make (m := n) (ps := ps3) (f := ((o, base ++ don.map tv), g)) (j := j3) (k := 75) (p := nI ps.1) (a := tLi vs) (b := .int nm) (c := tLi l) (by omega) (by omega) (by decide) (okLi vs) rfl (okLi l)
  simp only [ab_ok, va_up, Nat.reduceEqDiff, if_true, if_false, emk]
  rw [ma17 hlen, og_ok, pret_pb, show ∀ z : TR, base ++ don.map tv ++ [tv z] = base ++ (don ++ [z]).map tv by intro z; simp]
  exact hK (75, tLi vs, .int nm, tLi l, nI ps.1) ps3 (mkN j3 1) _ (PG.trans (PGe.trans (PGe.trans g1 g2.e) (PG.one g2.2.2.2.2 hl2).e) g3) (hj3.mk _) (by rw [mkN_nn]; omega) (by simpa [va_up] using hI)
theorem m_datatypes {vs : List TR} {nm : Int32} (htg : PGr tk ty) (hty : CoM false tv tk c 30 35 [] ty) : CoM false tLi tk (max c 5 + 2) 60 83 [tLi vs, .int nm, .int (nI b)] (pDbs tk ty vs nm b) := by
  intro k ps f j B hk hP hB
  obtain ⟨n, rfl⟩ := suc1 (m := k) (by omega)
  obtain ⟨⟨o, base⟩, g⟩ := f
  obtain ⟨ht, hT, hps, ha, hop, hfr, hS⟩ := id hP
  have hA : ALM = 30000 := rfl
  have hlen : o + base.length < ALM := by simp only [fSm] at hS; omega
  unfold pDbs
  refine ctm_gE ?_
  rw [eM_datatypes, zM_datatypes, amth_run, if_pos (show [tLi vs, Term.int nm, Term.int (nI b)].length = 3 from rfl), fin_ok, run_seq, run_set, aSz_e, kS_ok, sM_R17, sM_o17, run_seq, run_add]
  simp only [aCall_5, aCall_nil, aK_e, aL_e, ab_ok, ab_ab, kAD_ab]
  refine ctm_st (m_constructors htg hty) pgg_grE (by omega) (by omega) hP (jfm.rf j) fun l ps1 j1 g1 hP1 hj1 hB1 => ?_
  have hS1 := hP1.2.2.2.2.2.2
  have emk := m_make (m := n) (ps := ps1) (f := ((o, base), g)) (j := j1) (k := 75) (p := nI b) (a := tLi vs) (b := .int nm) (c := tLi l) (by omega) (by omega) (by decide) (okLi vs) rfl (okLi l)
  simp only [ab_ok, A0of, va_up, List.length_nil, List.length_cons, List.getD_cons_zero, List.getD_cons_succ, List.getD_nil, if_true, if_false, Bool.not_not, Bool.not_true, Bool.not_false, Bool.false_eq_true, reduceIte, Nat.reduceSub, Nat.reduceAdd, Nat.reduceEqDiff, emk]
  rw [ma17 hlen, og_ok, run_seq, run_rn, show base ++ [tv (75, tLi vs, .int nm, tLi l, nI b)] = base ++ [((75, tLi vs, .int nm, tLi l, nI b) : TR)].map tv from rfl, show LN = 99999 + 1 from rfl]
  have hS1' : fSm ((o, base ++ [((75, tLi vs, .int nm, tLi l, nI b) : TR)].map tv), g) + (mkN j1 1).nn + 8 * (n + 1) + 100 * (Tn tk - ps1.1) ≤ 29000 := by
    rw [fSm_push, mkN_nn]
    simp
    omega
  refine m_sepsW (W := false) (s := 2) (by omega) (by omega) (m_db1B (w := .int (nI (o + base.length))) htg hty (by omega)) 99999 LF [(75, tLi vs, .int nm, tLi l, nI b)] ps1 (mkN j1 1) j _ _ nk nk ((mkN j1 1).nn + 100 * (Tn tk - ps1.1)) B _ (by decide) (hP1.mkf (W := false) ((jfm.rf j1).mk _) hS1') (hj1.mk _) rfl (Nat.le_refl _) fun ts ps2 j2 L2 r1 r2 r3 r4 r5 => ?_
  rw [fSm_push, List.length_map] at r4
  have e : ([(75, tLi vs, .int nm, tLi l, nI b)] ++ ts : List TR).length = ts.length + 1 := by simp
  rw [e] at r4
  have hil : fSm ((o, base), g) = o + base.length + g.1 + g.2.length := rfl
  rw [hil] at r4
  rw [mkN_nn] at r3
  have el := m_list (m := n) (ps := ps2) (j := j2) (by omega) (o := o) (base := base) (items := [(75, tLi vs, .int nm, tLi l, nI b)] ++ ts) (g := g) (by rw [e]; omega) (by rw [e]; omega) (by rw [e]; omega)
  rw [run_ret, aCall_1, aL_e, r5, ab_ok, el]
  refine ctm_ret (v := (75, tLi vs, .int nm, tLi l, nI b) :: ts) (r2.mk _) ?_
  rw [mkN_nn, e]
  omega
/-- types behind withtype -/
theorem ctm_wth {F : List TR → PA β} {g : V → AS → Option (Option V × AS)} (htg : PGr tk ty) (hty : CoM false tv tk c 30 35 [] ty) (hn : max c 5 + 1 ≤ n) (hP : PRM tk ps f j (n + 1)) (hj : jfm false j0 j)
    (h : ∀ t ps' j', PGe tk ps ps' → PRM tk ps' f j' (n + 1) → jfm false j0 j' → j'.nn + 100 * (Tn tk - ps'.1) ≤ j.nn + 100 * (Tn tk - ps.1) → CTm false em2 tk fo j0 B (g (tLi t) (stM ps' f j')) (F t ps')) :
    CTm false em2 tk fo j0 B (ab (aIf (bZ .ne (aCall (aM n) 9 [(aK 31)])) (aCall (aM n) 86 []) (aK (-1)) LV (stM ps f j)) g) (pb (pWth tk ty) F ps) := by
  obtain ⟨ht, hT, hps, ha, hop, hfr, hS⟩ := id hP
  have e := m_eatB (n := n) (by omega) hP 31 LV
  unfold pWth
  refine ctm_pbD ?_
  cases hs : sg tk ps.1 31 with
  | false =>
    rw [hs] at e
    rw [aIf_f e, aK_e, ab_ok, if_neg (by decide), pb_val (v := []) (ps' := ps) (by rw [hs, if_neg (by decide)])]
    exact h [] ps j (PGe.rf hps ha) hP hj (Nat.le_refl _)
  | true =>
    have hlt : ps.1 < Tn tk := sg_lt hs
    rw [hs] at e
    rw [aIf_t e, aCall_nil, if_pos rfl, pb_at (p' := pTbs tk ty) (ps' := (ps.1 + 1, ps.2)) (by rw [hs, if_pos rfl])]
    refine ctm_st (m_typeBindings htg hty) pgg_grE (by omega) (by omega) (hP.one hlt) hj fun t ps1 j1 g1 hP1 hj1 hB1 => ?_
    dsimp only at hB1
    exact h t ps1 j1 (PGe.trans (PG.one hps hlt).e g1.e) hP1 hj1 (by omega)
theorem bZlt_li {k : Nat} {l : List TR} (h : LV k = tLi l) (A : AS) : bZ .lt (aL k) LV A = some (some (decide (l = [])), A) := by
  simp only [bZ, aL, ab_ok, h]
  cases l <;> rfl
theorem m_datatype (htg : PGr tk ty) (hty : CoM false tv tk c 30 35 [] ty) : CoM false tv tk (max c 5 + 3) 80 88 [.int (nI b)] (pDat tk ty b) := by
  intro k ps f j B hk hP hB
  obtain ⟨n, rfl⟩ := suc1 (m := k) (by omega)
  obtain ⟨ht, hT, hps, ha, hop, hfr, hS⟩ := id hP
  have hA : ALM = 30000 := rfl
  unfold pDat
  rw [eM_datatype, zM_datatype, amth_run, if_pos (show [Term.int (nI b)].length = 1 from rfl), fin_ok, run_seq, run_set, aF_e, kS_ok, sM_f13, run_seq, run_set, aCall_1, aK_e, ab_ok, kS_ab]
  refine ctm_ste (m_typeVariables (q := false)) pgh_grD (by omega) hP (jfm.rf j) fun vs ps1 j1 g1 hP1 hj1 hB1 => ?_
  rw [run_seq, run_set, aCall_nil, kS_ab]
  refine ctm_st m_shT pgg_shT (by omega) (by omega) hP1 hj1 fun nm ps2 j2 g2 hP2 hj2 hB2 => ?_
  rw [run_seq, run_ex, aCall_1, aK_e, ab_ok, kE_ab]
  refine ctm_need (by omega) hP2 hj2 fun hl2 => ?_
  have hP3 := hP2.one hl2
  have hS3 := hP3.2.2.2.2.2.2
  dsimp only at hS3
  generalize hL : va_up (va_up (va_up (A0of true [.int (nI b)]) 2 (.int (nI ps.1))) 3 (tLi vs)) 4 (.int nm) = L
  have l1 : L 1 = .int (nI b) := by rw [← hL]; rfl
  have l2 : L 2 = .int (nI ps.1) := by rw [← hL]; rfl
  have l3 : L 3 = tLi vs := by rw [← hL]; rfl
  have l4 : L 4 = .int nm := by rw [← hL]; rfl
  have ec : (bAnd (bZ .lt (aL 3)) (bZ .ne (aCall (aM n) 9 [(aK 6)]))) L (stM (ps2.1 + 1, ps2.2) f j2) = some (some (decide (vs = []) && sg tk (ps2.1 + 1) 6), stM (if (decide (vs = []) && sg tk (ps2.1 + 1) 6) = true then (ps2.1 + 1 + 1, ps2.2) else (ps2.1 + 1, ps2.2)) f j2) := by
    unfold bAnd
    rw [bZlt_li l3, ab_ok]
    cases decide (vs = []) with
    | false => rfl
    | true => rw [if_pos rfl, m_eatB (by omega) hP3]; rfl
  rw [run_seq, run_if, ec]
  by_cases hc : vs = [] ∧ sg tk (ps2.1 + 1) 6 = true
  · have hlt : ps2.1 + 1 < Tn tk := sg_lt hc.2
    have hP4 := hP3.one hlt
    have ha4 : ps2.1 + 1 + 1 ≤ Tn tk := hlt
    obtain ⟨_, hT4, _⟩ := id hP4
    rw [if_pos hc, hc.2, decide_eq_true hc.1, Bool.and_self, kI_t, if_pos rfl, run_seq, run_if, bNot_e (aCall0_b (m_isTyc (by omega) ht hT4 ha4))]
    unfold pRepl
    dsimp only
    cases hy : tycB tk (ps2.1 + 1 + 1) with
    | false =>
      rw [Bool.not_false, kI_t, run_ex, aCall_nil, m_stop (by omega), kE_no, if_neg (by decide)]
      exact ctm_flt hj2
    | true =>
      have hly := tyc_lt hy
      have hly' : ps2.1 + 1 + 1 < Tn tk := hly
      rw [Bool.not_true, kI_f, run_skip, if_pos rfl, run_seq, run_set, aIf01 (mK n (by omega) ht hT4 ha4 5), kS_ok, run_seq, run_set, mAt1 ht hT4 hly mF13, kS_ok, run_seq, run_opF, aK_e, kOF_ok, sM_f13, show oAdd (nI (ps2.1 + 1 + 1)) 1 = nI (ps2.1 + 1 + 1 + 1) from nI_1 _, sM_p13, run_ret]
      generalize hv : vAt tk (ps2.1 + 1 + 1) = v
      by_cases h5 : kAt tk (ps2.1 + 1 + 1) = 5
      · rw [if_pos h5, if_pos h5]
        generalize hL2 : va_up (va_up L 5 (.int (b2i (decide (kAt tk (ps2.1 + 1 + 1) = 5))))) 6 (.int v) = L2
        have k1 : L2 1 = .int (nI b) := by rw [← hL2]; simpa [va_up] using l1
        have k4 : L2 4 = .int nm := by rw [← hL2]; simpa [va_up] using l4
        have k5 : L2 5 = .int 1 := by rw [← hL2]; simp [va_up, h5]; rfl
        have k6 : L2 6 = .int v := by rw [← hL2]; rfl
        have d5 : ∀ (A : AS), bZ .ne (aL 5) L2 A = some (some true, A) := fun A => bZn_e (x := true) (by rw [aL_e, k5]; rfl)
        have emk := m_make (m := n) (ps := (ps2.1 + 1 + 1 + 1, ps2.2)) (f := f) (j := j2) (k := 77) (p := nI b) (a := .int nm) (b := .int (-1)) (c := .int v) (by omega) (by omega) (by decide) rfl rfl rfl
        simp only [aCall_5, aK_e, aL_e, ab_ok, aIf_t (d5 _), k1, k4, k6, emk]
        exact ctm_ret (v := ((77, .int nm, .int (-1), .int v, nI b) : TR)) (ps := (ps2.1 + 1 + 1 + 1, ps2.2)) (hj2.mk _) (by rw [mkN_nn]; dsimp only; omega)
      · rw [if_neg h5, if_neg h5]
        generalize hL2 : va_up (va_up L 5 (.int (b2i (decide (kAt tk (ps2.1 + 1 + 1) = 5))))) 6 (.int v) = L2
        have k1 : L2 1 = .int (nI b) := by rw [← hL2]; simpa [va_up] using l1
        have k4 : L2 4 = .int nm := by rw [← hL2]; simpa [va_up] using l4
        have k5 : L2 5 = .int 0 := by rw [← hL2]; simp [va_up, h5]; rfl
        have k6 : L2 6 = .int v := by rw [← hL2]; rfl
        have d5 : ∀ (A : AS), bZ .ne (aL 5) L2 A = some (some false, A) := fun A => bZn_e (x := false) (by rw [aL_e, k5]; rfl)
        have emk := m_make (m := n) (ps := (ps2.1 + 1 + 1 + 1, ps2.2)) (f := f) (j := j2) (k := 77) (p := nI b) (a := .int nm) (b := .int v) (c := .int (-1)) (by omega) (by omega) (by decide) rfl rfl rfl
        simp only [aCall_5, aK_e, aL_e, ab_ok, aIf_f (d5 _), k1, k4, k6, emk]
        exact ctm_ret (v := ((77, .int nm, .int v, .int (-1), nI b) : TR)) (ps := (ps2.1 + 1 + 1 + 1, ps2.2)) (hj2.mk _) (by rw [mkN_nn]; dsimp only; omega)
  · have hcb : (decide (vs = []) && sg tk (ps2.1 + 1) 6) = false := by
      cases hh : (decide (vs = []) && sg tk (ps2.1 + 1) 6) with
      | false => rfl
      | true =>
        rw [Bool.and_eq_true, decide_eq_true_eq] at hh
        exact absurd hh hc
    rw [hcb, kI_f, if_neg (by decide), run_skip, if_neg hc, run_seq, run_set]
    simp only [aCall_3, aL_e, ab_ok, l2, l3, l4, kS_ab]
    refine ctm_st (m_datatypes htg hty) pgg_grE (by omega) (by omega) hP3 hj2 fun l ps4 j4 g4 hP4 hj4 hB4 => ?_
    dsimp only at hB4
    rw [run_ret]
    simp only [aCall_5, aK_e, aL_e, ab_ok]
    refine ctm_wth htg hty (by omega) hP4 hj4 fun w ps5 j5 g5 hP5 hj5 hB5 => ?_
    have hS5 := hP5.2.2.2.2.2.2
    have emk := m_make (m := n) (ps := ps5) (f := f) (j := j5) (k := 74) (p := nI b) (a := tLi l) (b := tLi w) (c := .int (-1)) (by omega) (by omega) (by decide) (okLi l) (okLi w) rfl
    simp only [ab_ok, va_up, Nat.reduceEqDiff, if_true, if_false, l1, emk]
    exact ctm_ret (v := (74, tLi l, tLi w, no, nI b)) (hj5.mk _) (by rw [mkN_nn]; omega)
theorem pIdent_no {q : Bool} {k0 : Int32} (h : idB tk ps = false) : pIdent tk k0 q ps = pflt 1 ps := by
  unfold idB at h
  rw [Bool.or_eq_false_iff, Bool.or_eq_false_iff] at h
  obtain ⟨⟨h1, h2⟩, h3⟩ := h
  unfold pIdent
  rw [h3, if_neg (by decide), if_neg (of_decide_eq_false h2), h1, if_neg (by decide)]
noncomputable def pExI (nm : Int32) (b : Nat) (t : TR) : PA TR := fun ps3 => match vI t.2.1, vI t.2.2.1 with
  | some x, some y => some (.inl ((81, .int nm, .int x, .int y, nI b), ps3))
  | _, _ => none
noncomputable def pExK (tk : TK) (ty : PA TR) (b : Nat) (nm : Int32) : PA TR := fun ps2 => if sg tk ps2.1 45 = true then pb (grE tk (pIdent tk 11 false)) (pExI nm b) (ps2.1 + 1, ps2.2)
  else pb (pOf tk ty) (fun t => pret (80, .int nm, ov t, no, nI b)) ps2
theorem m_excB {o : Nat} {base : List V} {g : Nat × List V} {w : V} (htg : PGr tk ty) (hty : CoM false tv tk c 30 35 [] ty) (hn : max c 5 ≤ n) :
    BodyD false tk n o base g (pEx1 tk ty) (fun L => L 1 = w) 80 (zSeq (zSet 2 (aF 13)) (zSeq (zSet 3 (aCall (aM n) 85 [])) (zIf (bZ .ne (aCall (aM n) 9 [(aK 45)])) (zSeq (zIf (bNot (bZ .ne (aCall (aM n) 24 []))) (zEx (aCall (aM n) 10 [])) zSkip) (zSeq (zSet 4 (aCall (aM n) 27 [(aK 1)])) (zAdd 17 (aCall (aM n) 16 [(aK 81), (aL 3), (aL 4), (aF 19), (aL 2)])))) (zAdd 17 (aCall (aM n) 16 [(aK 80), (aL 3), (aIf (bZ .ne (aCall (aM n) 9 [(aK 21)])) (aCall (aM n) 35 []) (aK (-1))), (aK (-1)), (aL 2)]))))) := by
  intro α em fo F don ps j j0 LV K B0 C0 B hP hj hI hK
  obtain ⟨ht, hT, hps, ha, hop, hfr, hS⟩ := id hP
  have hA : ALM = 30000 := rfl
  have hlen : o + (base ++ don.map tv).length < ALM := by simp only [fSm] at hS; omega
  have hrow : ∀ z : TR, base ++ don.map tv ++ [tv z] = base ++ (don ++ [z]).map tv := by intro z; simp
  rw [rn_seq, rn_set, aF_e, ab_ok, sM_f13, rn_seq, rn_set, aCall_nil]
  rw [pb_at (p := pEx1 tk ty) (p' := pb (pNew tk) (pExK tk ty ps.1)) (ps' := ps) rfl, pb_pb]
  refine ctm_st m_new (pgg_new ht) (by omega) (by omega) hP hj fun nm ps1 j1 g1 hP1 hj1 hB1 => ?_
  rw [rn_if, m_eatB (by omega) hP1, ab_ok]
  have hS1 := hP1.2.2.2.2.2.2
  cases h45 : sg tk ps1.1 45 with
  | false =>
    rw [if_neg (by decide), if_neg (by decide), pb_at (p' := pb (pOf tk ty) (fun t => pret (80, .int nm, ov t, no, nI ps.1))) (ps' := ps1) (by simp only [pExK, h45, Bool.false_eq_true, if_false]), pb_pb, rn_add]
    simp only [aCall_5, aK_e, aL_e, ab_ok, ab_ab]
    refine ctm_pbD (ctm_opt (s := 21) htg hty (by omega) hP1 hj1 fun t ps3 j3 g3 hP3 hj3 hB3 => ?_)
    have hS3 := hP3.2.2.2.2.2.2
    have emk := m_make (m := n) (ps := ps3) (f := ((o, base ++ don.map tv), g)) (j := j3) (k := 80) (p := nI ps.1) (a := .int nm) (b := ov t) (c := .int (-1)) (by omega) (by omega) (by decide) rfl (okOv t) rfl
    simp only [ab_ok, va_up, Nat.reduceEqDiff, if_true, if_false, emk]
    rw [ma17 hlen, og_ok, pret_pb, hrow]
    exact hK (80, .int nm, ov t, no, nI ps.1) ps3 (mkN j3 1) _ (PG.trans' g1 g3) (hj3.mk _) (by rw [mkN_nn]; omega) (by simpa [va_up] using hI)
  | true =>
    have hlt : ps1.1 < Tn tk := sg_lt h45
    have hP2 := hP1.one hlt
    obtain ⟨_, hT2, hps2, ha2, _⟩ := id hP2
    rw [if_pos rfl, if_pos rfl, pb_at (p' := pb (grE tk (pIdent tk 11 false)) (pExI nm ps.1)) (ps' := (ps1.1 + 1, ps1.2)) (by simp only [pExK, h45, if_true]), pb_pb]
    refine ctm_pbg ?_
    rw [rn_seq, rn_if, bNot_e (aCall0_b (m_isId (by omega) ht hT2 ha2 hps2)), ab_ok]
    cases hid : idB tk (ps1.1 + 1, ps1.2) with
    | false =>
      rw [Bool.not_false, if_pos rfl, rn_ex, aCall_nil, m_stop (by omega), ab_no, pb_flt (pIdent_no hid)]
      exact ctm_flt hj1
    | true =>
      rw [Bool.not_true, if_neg (by decide), rn_skip, rn_seq, rn_set, aCall_1, aK_e, ab_ok, pb_at (p' := pb (idV tk false) (fun v => pret (11, .int v.1, .int v.2, no, nI (ps1.1 + 1)))) (ps' := (ps1.1 + 1, ps1.2)) (pIdent_id hid), pb_pb]
      refine ctm_id (q := false) (by omega) hP2 hj1 fun v a e1 c1 c2 c3 c4 c5 => ?_
      dsimp only at c1
      have emk := m_make (m := n) (ps := (a, ps1.2)) (f := ((o, base ++ don.map tv), g)) (j := apF j1 19 v.2) (k := 81) (p := nI ps.1) (a := .int nm) (b := .int v.1) (c := .int v.2) (by omega) (by show j1.nn < ALM; omega) (by decide) rfl rfl rfl
      have e19 : (stM (a, ps1.2) ((o, base ++ don.map tv), g) (apF j1 19 v.2)).1 19 = v.2 := rfl
      rw [rn_add]
      simp only [aCall_5, aK_e, aL_e, aF_e, ab_ok, va_up, Nat.reduceEqDiff, if_true, if_false, e19, emk]
      rw [ma17 hlen, og_ok, pret_pb, hrow]
      exact hK (81, .int nm, .int v.1, .int v.2, nI ps.1) (a, ps1.2) (mkN (apF j1 19 v.2) 1) _ (PG.trans' g1 ⟨by dsimp only; omega, c2, rfl, by dsimp only; omega, hps2⟩) (c4.mk _) (by rw [mkN_nn]; show j1.nn + 1 + _ + _ ≤ _; dsimp only; omega) (by simpa [va_up] using hI)
theorem m_exceptions (htg : PGr tk ty) (hty : CoM false tv tk c 30 35 [] ty) : CoM false tLi tk (max (max c 5) 5 + 1) 70 89 [] (pExs tk ty) :=
  m_moreL (s := 2) (fun _ hn _ _ _ => m_excB htg hty hn) (by omega) (by omega) (fun n vs A => by rw [eM_exceptions]; rfl)
end MDA
