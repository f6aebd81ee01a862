/-! M: declarations of types -/
section MTD
variable {α β : Type} {W : Bool} {em : α → V} {em2 : β → V} {tk : TK} {f f1 f' fo : FM} {j j1 j' j0 : AS} {B B1 a : Nat} {r : Option (Option V × AS)} {ps ps' : PS} {m n k k' : Nat} {LV : AL} {zs : List ZX} {ty pat E inf : PA TR} {c b : Nat}
theorem m_sepsC {o : Nat} {base : List V} {g : Nat × List V} {s : Int32} {p : PA TR} {Inv : AL → Prop} {sl : Nat} {body : ZX} {cnd : BX} (hn : 2 ≤ n) (hsl : sl ≤ 100) (hs0 : 1 ≤ sl) (hcnd : ∀ (LV : AL) (A : AS), Inv LV → cnd LV A = bZ .ne (aCall (aM n) 9 [(aK s)]) LV A) (hb : BodyD W tk n o base g p Inv sl body) (N : Nat) :
    ∀ (M : Nat) (don : List TR) (ps : PS) (j j0 : AS) (LV : AL) (K B0 C0 : KT) (B1 B : Nat) (F : TR → List TR → PA α), M + 1 ≤ N → PRM tk ps ((o, base ++ don.map tv), g) j (n + 1) → jfm W j0 j → Inv LV → j.nn + 100 * (Tn tk - ps.1) ≤ B1 →
    (∀ t ts ps' j' LV', PG tk ps ps' → jfm W j0 j' → j'.nn + 100 * (Tn tk - ps'.1) + sl * (ts.length + 1) ≤ B1 → fSm ((o, base ++ (don ++ t :: ts).map tv), g) + j'.nn + 8 * (n + 1) + 100 * (Tn tk - ps'.1) ≤ 29000 → Inv LV' → sg tk ps'.1 s = false → CTm W em tk fo j0 B (K LV' (stM ps' ((o, base ++ (don ++ t :: ts).map tv), g) j')) (F t ts ps')) →
    CTm W em tk fo j0 B (rn (zDo N body cnd LV (stM ps ((o, base ++ don.map tv), g) j)) K B0 C0) (pb p (fun t => pb (pSeps tk s p M) fun ts => F t ts) ps) := by
  induction N with
  | zero =>
    intro M don ps j j0 LV K B0 C0 B1 B F hM
    omega
  | succ N ih =>
    intro M don ps j j0 LV K B0 C0 B1 B F hM hP hj hI hB hK
    have hS := hP.2.2.2.2.2.2
    rw [rn_do]
    refine hb α em fo _ don ps j j0 LV _ _ _ B hP hj hI fun t ps' j' LV' q1 q2 q3 q4 => ?_
    have hl : fSm ((o, base ++ (don ++ [t]).map tv), g) = fSm ((o, base ++ don.map tv), g) + 1 := by simp [fSm]; omega
    have hP1 : PRM tk ps' ((o, base ++ (don ++ [t]).map tv), g) j' (n + 1) := hP.nx q1 (hj.l q2) (by rw [hl]; omega)
    rw [hcnd _ _ q4, m_eatB hn hP1, ab_ok]
    cases M with
    | zero => exact trivial
    | succ M =>
      cases hc : sg tk ps'.1 s with
      | true =>
        have hlt : ps'.1 < Tn tk := sg_lt hc
        rw [pb_at (p' := pb p fun t => pb (pSeps tk s p M) fun ts => pret (t :: ts)) (ps' := (ps'.1 + 1, ps'.2)) (by simp only [pSeps, hc, if_true]), pb_pb, if_pos rfl, if_pos rfl]
        have e : ∀ u, pb (pb (pSeps tk s p M) fun ts => pret (u :: ts)) (fun ts => F t ts) = pb (pSeps tk s p M) fun ts => F t (u :: ts) := by
          intro u
          rw [pb_pb]
          rfl
        simp only [e]
        refine ih M (don ++ [t]) (ps'.1 + 1, ps'.2) j' j0 LV' K B0 C0 (B1 - sl) B (fun u ts => F t (u :: ts)) (by omega) (hP1.one hlt) q2 q4 (by dsimp only; omega) fun u ts ps'' j'' LV'' r1 r3 r4 r5 r6 r7 => ?_
        have := hK t (u :: ts) ps'' j'' LV'' (PG.trans (PGe.trans q1.e (PG.one q1.2.2.2.2 hlt).e) r1) r3 (by rw [List.length_cons, Nat.mul_add, Nat.mul_one]; omega) (by simpa using r5) r6 r7
        simpa using this
      | false =>
        rw [pb_val (v := []) (ps' := ps') (by simp only [pSeps, hc, Bool.false_eq_true, if_false]), if_neg (by decide), if_neg (by decide)]
        exact hK t [] ps' j' LV' q1 q2 (by simp; omega) (by rw [show don ++ t :: [] = don ++ [t] from rfl, hl]; omega) q4 hc
theorem m_tvB {o : Nat} {base : List V} {g : Nat × List V} {x y : V} (hn : 2 ≤ n) : BodyD W tk n o base g (pTV tk) (fun L => L 2 = x ∧ L 3 = y) 99 (zSeq (zIf (bCmp .ne (aCall (aM n) 8 []) (aK 4)) (zEx (aCall (aM n) 10 [])) zSkip) (zSeq (zAdd 17 (aCall (aM n) 16 [(aK 50), (aAt 1 (aF 13)), (aK (-1)), (aK (-1)), (aF 13)])) (zOpF oAdd 13 (aK 1)))) := by
  intro α em fo F don ps j j0 LV K B0 C0 B hP hj hI hK
  obtain ⟨ht, hT, hps, ha, hop, hfr, hS⟩ := id hP
  have hA : ALM = 30000 := rfl
  have hlen : o + (base ++ don.map tv).length < ALM := by simp only [fSm] at hS; omega
  unfold pTV
  refine ctm_pbT ?_
  rw [rn_seq, rn_if, mKn n (by omega) ht hT ha 4, ab_ok]
  by_cases h4 : kAt tk ps.1 = 4
  · have hlt : ps.1 < Tn tk := k_lt (by rw [h4]; decide)
    rw [decide_eq_true h4, if_neg (by decide), rn_skip, pb_val (v := (50, .int (vAt tk ps.1), no, no, nI ps.1)) (ps' := (ps.1 + 1, ps.2)) (by rw [if_pos h4]), rn_seq, rn_add]
    have emk := m_make (m := n) (ps := ps) (f := ((o, base ++ don.map tv), g)) (j := j) (k := 50) (p := nI ps.1) (a := .int (vAt tk ps.1)) (b := .int (-1)) (c := .int (-1)) (by omega) (by omega) (by decide) rfl rfl rfl
    have e1 : aCall (aM n) 16 [(aK 50), (aAt 1 (aF 13)), (aK (-1)), (aK (-1)), (aF 13)] LV (stM ps ((o, base ++ don.map tv), g) j) = some (some (tv (50, .int (vAt tk ps.1), no, no, nI ps.1)), stM ps ((o, base ++ don.map tv), g) (mkN j 1)) := by
      have := mAt1 (LV := LV) (f := ((o, base ++ don.map tv), g)) ht hT hlt mF13
      simp only [aCall, aArgs, aK, ab_ok, this, aF, sM_f13, emk]
    rw [e1, ab_ok, ma17 hlen, og_ok, rn_opF, aK_e, ab_ok, sM_f13, show ∀ z : TR, base ++ don.map tv ++ [tv z] = base ++ (don ++ [z]).map tv by intro z; simp]
    rw [vbin_i, Option.bind_some, vput_i, og_ok, show oAdd (nI ps.1) 1 = nI (ps.1 + 1) from nI_1 _, sM_p13]
    exact hK _ (ps.1 + 1, ps.2) (mkN j 1) LV (PG.one hps hlt) (hj.mk _) (by rw [mkN_nn]; dsimp only; omega) hI
  · rw [decide_eq_false h4, if_pos (by decide), rn_ex, aCall_nil, m_stop (by omega), ab_no, pb_flt (k := 1) (by rw [if_neg h4])]
    exact ctm_flt hj
theorem m_typeVariables {q : Bool} : CoM W tLi tk 5 0 70 [.int (b2i !q)] (pTvs tk q) := by
  intro k ps f j B hk hP hB
  obtain ⟨n, rfl⟩ := suc1 (m := k) (by omega)
  obtain ⟨⟨o, base⟩, g⟩ := f
  obtain ⟨ht, hT, hps, ha, hop, hfr, hS⟩ := id hP
  have hA : ALM = 30000 := rfl
  have h3 := tk_len ht
  refine ctm_gD ?_
  rw [eM_typeVariables, zM_typeVariables, amth_run, if_pos (show [Term.int (b2i !q)].length = 1 from rfl), fin_ok, run_seq, run_set, aSz_e, kS_ok, sM_R17, sM_o17, run_seq, run_set]
  have ec : (bAnd (bZ .ne (aCall (aM n) 6 [(aK 33)])) (bOr (bZ .ne (aL 1)) (bAnd (bCmp .lt (aBin oAdd (aF 13) (aK 1)) (aF 3)) (bCmp .eq (aAt 0 (aBin oAdd (aF 13) (aK 1))) (aK 4))))) (va_up (A0of true [.int (b2i !q)]) 2 (.int (nI (o + base.length)))) (stM ps ((o, base), g) j) = some (some (sg tk ps.1 33 && (!q || decide (kAt tk (ps.1 + 1) = 4))), stM ps ((o, base), g) j) := by
    refine bAnd_e (mS n (by omega) ht hT ha 33) (bOr_e (bZn_e (by rw [aL_e]; rfl)) ?_)
    have eb : ∀ L : AL, aBin oAdd (aF 13) (aK 1) L (stM ps ((o, base), g) j) = some (some (.int (nI (ps.1 + 1))), stM ps ((o, base), g) j) := by
      intro L
      simp only [d10, eq_self, decide_true, decide_false, ti_b, b2i_t, b2i_f, aK, aL, aF, aSz, aBin, aDiv, aB, aAt, aNd, aArgs, aCall, aIf, bCmp, bZ, bAnd, bOr, bNot, bTT, bIf, ab_ok, ab_no, ab_none, ab_ab, ab_ite, aok_ok, aok_none, og_ok, og_none, vbin_i, vb8_i, vput_i, vI_i, cmp_i, hold_eq, hold_ne, hold_lt, hold_ge, hold_gt, hold_le, b2i_0, ss_b, ss_ite, oAdd, oSub, oMul, Option.bind_some, A0of, va_up, List.length_nil, List.length_cons, List.getD_cons_zero, List.getD_cons_succ, List.getD_nil, if_true, if_false, Bool.not_not, Bool.not_true, Bool.not_false, Bool.false_eq_true, reduceIte, Nat.reduceSub, Nat.reduceAdd, Nat.reduceEqDiff, sM_f13, sM_f14, sM_f11, sM_f19, sM_f20, sM_f21, sM_R17, sM_R18, sM_R4, sM_R5, sM_o17, sM_o18, sM_o4, sM_o5, sM_nn, sM_fl, nI_1]
    have e1 := mLt (f := ((o, base), g)) (ps := ps) ht hT (i := ps.1 + 1) (by omega) (eb (va_up (A0of true [.int (b2i !q)]) 2 (.int (nI (o + base.length)))))
    by_cases hl : ps.1 + 1 < Tn tk
    · rw [bAnd_e e1 (bEq_e (mAt0 ht hT hl (eb _))), decide_eq_true hl]
      rfl
    · unfold bAnd
      rw [e1, ab_ok, decide_eq_false hl, if_neg (by decide), kAt_out (Nat.not_lt.mp hl)]
      rfl
  rw [aIf01 ec, kS_ok]
  generalize hL : va_up (va_up (A0of true [.int (b2i !q)]) 2 (.int (nI (o + base.length)))) 3 (.int (b2i (sg tk ps.1 33 && (!q || decide (kAt tk (ps.1 + 1) = 4))))) = L
  have l2 : L 2 = .int (nI (o + base.length)) := by rw [← hL]; rfl
  have l3 : L 3 = .int (b2i (sg tk ps.1 33 && (!q || decide (kAt tk (ps.1 + 1) = 4)))) := by rw [← hL]; rfl
  clear hL
  generalize hmany : (sg tk ps.1 33 && (!q || decide (kAt tk (ps.1 + 1) = 4))) = many at l3
  have d3 : ∀ (A : AS), bZ .ne (aL 3) L A = some (some many, A) := fun A => bZn_e (by rw [aL_e, l3])
  rw [run_seq, run_if, bAnd_e (bNot_e (d3 _)) (mKn n (by omega) ht hT ha 4)]
  have hc : (!sg tk ps.1 33 || (q && !decide (kAt tk (ps.1 + 1) = 4))) = !many := by rw [← hmany]; cases sg tk ps.1 33 <;> cases q <;> cases decide (kAt tk (ps.1 + 1) = 4) <;> rfl
  have hlist : ∀ (L' : AL) (ps' : PS) (j' : AS) (ts : List TR), L' 2 = .int (nI (o + base.length)) → jfm W j j' → j'.nn + ts.length + 100 * (Tn tk - ps'.1) ≤ B → j'.nn + ts.length + o + base.length ≤ 29000 → CTm W tLi tk ((o, base), g) j B (run [zRet (aCall (aM n) 42 [(aL 2)])] nk L' (stM ps' ((o, base ++ ts.map tv), g) j')) (pret ts ps') := by
    intro L' ps' j' ts k2 hj' hB' hS'
    have el := m_list (m := n) (ps := ps') (j := j') (by omega) (o := o) (base := base) (items := ts) (g := g) (by omega) (by omega) (by omega)
    rw [run_ret, aCall_1, aL_e, k2, ab_ok, el]
    exact ctm_ret (hj'.mk _) (by rw [mkN_nn]; omega)
  by_cases h4 : kAt tk ps.1 = 4
  · have hlt : ps.1 < Tn tk := k_lt (by rw [h4]; decide)
    have h33 : sg tk ps.1 33 = false := by
      unfold sg
      rw [h4]
      rfl
    have hm0 : many = false := by rw [← hmany, h33]; rfl
    subst hm0
    simp only [h4, if_true, decide_true, Bool.not_true, Bool.and_false]
    rw [kI_f, run_skip, run_seq, run_putF, aIf_f (d3 _), aF_e, kPF_ok, sM_f13, sM_p13, run_seq, run_rn, show LN = 99999 + 1 from rfl, rn_do]
    have hP' : PRM tk ps ((o, base ++ ([] : List TR).map tv), g) j (n + 1) := by simpa using hP
    have hb := m_tvB (W := W) (tk := tk) (n := n) (o := o) (base := base) (g := g) (x := .int (nI (o + base.length))) (y := .int 0) (by omega)
    have := hb (List TR) tLi ((o, base), g) (fun t => pret [t]) [] ps j j L
    rw [List.map_nil, List.append_nil] at this
    refine this _ _ _ B hP (jfm.rf j) ⟨l2, l3⟩ fun t ps' j' L' q1 q2 q3 q4 => ?_
    have d3' : ∀ (A : AS), bZ .ne (aL 3) L' A = some (some false, A) := fun A => bZn_e (x := false) (by rw [aL_e, q4.2]; rfl)
    have ec2 : ∀ A : AS, (bAnd (bZ .ne (aL 3)) (bZ .ne (aCall (aM n) 9 [(aK 39)]))) L' A = some (some false, A) := by
      intro A
      unfold bAnd
      rw [d3', ab_ok, if_neg (by decide)]
    rw [ec2, ab_ok, if_neg (by decide), run_seq, run_if, d3', kI_f, run_skip, List.nil_append]
    simp only [fSm] at hS
    exact hlist L' ps' j' [t] q4.1 q2 (by simp only [List.length_cons, List.length_nil]; have := q1.1; omega) (by simp only [List.length_cons, List.length_nil]; have := q1.1; omega)
  · simp only [h4, if_false, decide_false, Bool.not_false, Bool.and_true, hc]
    cases many with
    | false =>
      rw [Bool.not_false, kI_t, run_ret, aK_e, if_pos rfl]
      exact ctm_ret (v := []) (jfm.rf j) (by omega)
    | true =>
      have h33 : sg tk ps.1 33 = true := by
        cases h : sg tk ps.1 33 with
        | true => rfl
        | false => rw [h] at hmany; simp at hmany
      have hlt : ps.1 < Tn tk := sg_lt h33
      have eb : ∀ L : AL, aBin oAdd (aF 13) (aK 1) L (stM ps ((o, base), g) j) = some (some (.int (nI (ps.1 + 1))), stM ps ((o, base), g) j) := by
        intro L
        simp only [d10, eq_self, decide_true, decide_false, ti_b, b2i_t, b2i_f, aK, aL, aF, aSz, aBin, aDiv, aB, aAt, aNd, aArgs, aCall, aIf, bCmp, bZ, bAnd, bOr, bNot, bTT, bIf, ab_ok, ab_no, ab_none, ab_ab, ab_ite, aok_ok, aok_none, og_ok, og_none, vbin_i, vb8_i, vput_i, vI_i, cmp_i, hold_eq, hold_ne, hold_lt, hold_ge, hold_gt, hold_le, b2i_0, ss_b, ss_ite, oAdd, oSub, oMul, Option.bind_some, A0of, va_up, List.length_nil, List.length_cons, List.getD_cons_zero, List.getD_cons_succ, List.getD_nil, if_true, if_false, Bool.not_not, Bool.not_true, Bool.not_false, Bool.false_eq_true, reduceIte, Nat.reduceSub, Nat.reduceAdd, Nat.reduceEqDiff, sM_f13, sM_f14, sM_f11, sM_f19, sM_f20, sM_f21, sM_R17, sM_R18, sM_R4, sM_R5, sM_o17, sM_o18, sM_o4, sM_o5, sM_nn, sM_fl, nI_1]
      rw [Bool.not_true, kI_f, run_skip, if_neg (by decide), run_seq, run_putF, aIf_t (d3 _), eb, kPF_ok, sM_p13, run_seq, run_rn]
      refine ctm_adv fun _ => ?_
      have hP1 := hP.one hlt
      have hP1' : PRM tk (ps.1 + 1, ps.2) ((o, base ++ ([] : List TR).map tv), g) j (n + 1) := by simpa using hP1
      have := m_sepsC (em := tLi) (fo := ((o, base), g)) (W := W) (s := 39) (o := o) (base := base) (g := g) (cnd := bAnd (bZ .ne (aL 3)) (bZ .ne (aCall (aM n) 9 [(aK 39)]))) (by omega) (by omega) (by omega) (by
        intro L A hI
        unfold bAnd
        rw [bZn_e (x := true) (by rw [aL_e, hI.2]; rfl), ab_ok, if_pos rfl]) (m_tvB (W := W) (tk := tk) (n := n) (o := o) (base := base) (g := g) (x := .int (nI (o + base.length))) (y := .int 1) (by omega)) LN LF [] (ps.1 + 1, ps.2) j j L (run [zSeq (zIf (bZ .ne (aL 3)) (zEx (aCall (aM n) 33 [(aK 34)])) zSkip) (zRet (aCall (aM n) 42 [(aL 2)]))] nk) nk nk (j.nn + 100 * (Tn tk - (ps.1 + 1))) B (fun t ts => pNeed tk 34 (pret (t :: ts))) (by decide) hP1' (jfm.rf j) ⟨l2, l3⟩ (Nat.le_refl _) (fun t ts ps3 j3 L3 r1 r2 r3 r4 r5 r6 => ?_)
      · simpa using this
      · rw [List.nil_append] at r4 ⊢
        have hP3 : PRM tk ps3 ((o, base ++ (t :: ts).map tv), g) j3 (n + 1) := hP1.nx r1 r2 r4
        rw [run_seq, run_if, bZn_e (x := true) (by rw [aL_e, r5.2]; rfl), kI_t, run_ex, aCall_1, aK_e, ab_ok, kE_ab]
        refine ctm_need (by omega) hP3 r2 fun hl3 => ?_
        rw [fSm_push, List.length_map] at r4
        have e : (t :: ts).length = ts.length + 1 := rfl
        simp only [fSm] at r4
        rw [e] at r4
        exact hlist L3 (ps3.1 + 1, ps3.2) j3 (t :: ts) r5.1 r2 (by rw [e]; dsimp only; omega) (by rw [e]; omega)
theorem m_shT : CoM W (fun i : Int32 => Term.int i) tk 3 90 82 [] (pShT tk) := by
  intro k ps f j B hk hP hB
  obtain ⟨n, rfl⟩ := suc1 (m := k) (by omega)
  obtain ⟨ht, hT, hps, ha, hop, hfr, hS⟩ := id hP
  rw [eM_shortConstructor, zM_shortConstructor, amth_run, List.length_nil, if_pos rfl, fin_ok, run_seq, run_if, bOr_e (bNot_e (aCall0_b (m_isTyc (by omega) ht hT ha))) (mK n (by omega) ht hT ha 5)]
  unfold pShT
  have e : (!tycB tk ps.1 || decide (kAt tk ps.1 = 5)) = !(tycB tk ps.1 && !decide (kAt tk ps.1 = 5)) := by cases tycB tk ps.1 <;> cases decide (kAt tk ps.1 = 5) <;> rfl
  rw [e]
  cases h : (tycB tk ps.1 && !decide (kAt tk ps.1 = 5)) with
  | true =>
    rw [Bool.and_eq_true] at h
    have hlt := tyc_lt h.1
    have hlt' : ps.1 < Tn tk := hlt
    have e4 : ∀ L : AL, aBin oSub (aF 13) (aK 1) L (stM (ps.1 + 1, ps.2) f j) = some (some (.int (nI ps.1)), stM (ps.1 + 1, ps.2) f j) := by
      intro L
      simp only [d10, eq_self, decide_true, decide_false, ti_b, b2i_t, b2i_f, aK, aL, aF, aSz, aBin, aDiv, aB, aAt, aNd, aArgs, aCall, aIf, bCmp, bZ, bAnd, bOr, bNot, bTT, bIf, ab_ok, ab_no, ab_none, ab_ab, ab_ite, aok_ok, aok_none, og_ok, og_none, vbin_i, vb8_i, vput_i, vI_i, cmp_i, hold_eq, hold_ne, hold_lt, hold_ge, hold_gt, hold_le, b2i_0, ss_b, ss_ite, oAdd, oSub, oMul, Option.bind_some, A0of, va_up, List.length_nil, List.length_cons, List.getD_cons_zero, List.getD_cons_succ, List.getD_nil, if_true, if_false, Bool.not_not, Bool.not_true, Bool.not_false, Bool.false_eq_true, reduceIte, Nat.reduceSub, Nat.reduceAdd, Nat.reduceEqDiff, sM_f13, sM_f14, sM_f11, sM_f19, sM_f20, sM_f21, sM_R17, sM_R18, sM_R4, sM_R5, sM_o17, sM_o18, sM_o4, sM_o5, sM_nn, sM_fl, nI_pred]
    rw [Bool.not_true, kI_f, run_skip, if_pos rfl, run_seq, run_opF, aK_e, kOF_ok, sM_f13, show oAdd (nI ps.1) 1 = nI (ps.1 + 1) from nI_1 _, sM_p13, run_ret, mAt1 ht hT hlt (e4 _)]
    exact ctm_ret (em := fun i : Int32 => Term.int i) (ps := (ps.1 + 1, ps.2)) (jfm.rf j) (by dsimp only; omega)
  | false =>
    rw [Bool.not_false, kI_t, run_ex, aCall_nil, m_stop (by omega), kE_no, if_neg (by decide)]
    exact ctm_flt (jfm.rf j)
theorem m_tbB {o : Nat} {base : List V} {g : Nat × List V} {w : V} (htg : PGr tk ty) (hty : CoM false tv tk c 30 35 [] ty) (hn : max c 5 ≤ n) :
    BodyD false tk n o base g (pTb1 tk ty) (fun L => L 1 = w) 60 (zSeq (zSet 2 (aF 13)) (zSeq (zSet 3 (aCall (aM n) 70 [(aK 1)])) (zSeq (zSet 4 (aCall (aM n) 82 [])) (zSeq (zEx (aCall (aM n) 33 [(aK 45)])) (zAdd 17 (aCall (aM n) 16 [(aK 73), (aL 3), (aL 4), (aCall (aM n) 35 []), (aL 2)])))))) := by
  intro α em fo F don ps j j0 LV K B0 C0 B hP hj hI hK
  obtain ⟨ht, hT, hps, ha, hop, hfr, hS⟩ := id hP
  have hA : ALM = 30000 := rfl
  have hlen : o + (base ++ don.map tv).length < ALM := by simp only [fSm] at hS; omega
  rw [rn_seq, rn_set, aF_e, ab_ok, sM_f13, rn_seq, rn_set, aCall_1, aK_e, ab_ok]
  rw [pb_at (p := pTb1 tk ty) (p' := pb (pTvs tk false) fun vs => pb (pShT tk) fun nm => pNeed tk 45 (pb ty fun t => pret (73, tLi vs, .int nm, tv t, nI ps.1))) (ps' := ps) rfl, pb_pb]
  refine ctm_ste (m_typeVariables (q := false)) pgh_grD (by omega) hP hj fun vs ps1 j1 g1 hP1 hj1 hB1 => ?_
  rw [pb_pb, rn_seq, rn_set, aCall_nil]
  refine ctm_st m_shT pgg_shT (by omega) (by omega) hP1 hj1 fun nm ps2 j2 g2 hP2 hj2 hB2 => ?_
  rw [pNeed_pb, rn_seq, rn_ex, aCall_1, aK_e, ab_ok]
  refine ctm_need (by omega) hP2 hj2 fun hl2 => ?_
  rw [pb_pb, rn_add]
  simp only [aCall, aArgs, aK, aL, ab_ok, ab_ab, A0of, va_up, List.length_nil, List.length_cons, List.getD_cons_zero, List.getD_cons_succ, List.getD_nil, if_true, if_false, Bool.not_not, Bool.not_true, Bool.not_false, Bool.false_eq_true, reduceIte, Nat.reduceSub, Nat.reduceAdd, Nat.reduceEqDiff]
  refine ctm_st hty htg (by omega) (by omega) (hP2.one hl2) hj2 fun t ps3 j3 g3 hP3 hj3 hB3 => ?_
  dsimp only at hB3
  have hS3 := hP3.2.2.2.2.2.2
  have emk := m_make (m := n) (ps := ps3) (f := ((o, base ++ don.map tv), g)) (j := j3) (k := 73) (p := nI ps.1) (a := tLi vs) (b := .int nm) (c := tv t) (by omega) (by omega) (by decide) (okLi vs) rfl rfl
  simp only [ab_ok, emk]
  rw [ma17 hlen, og_ok, pret_pb, show ∀ z : TR, base ++ don.map tv ++ [tv z] = base ++ (don ++ [z]).map tv by intro z; simp]
  exact hK (73, tLi vs, .int nm, tv t, nI ps.1) ps3 (mkN j3 1) _ (PG.trans (PGe.trans (PGe.trans g1 g2.e) (PG.one g2.2.2.2.2 hl2).e) g3) (hj3.mk _) (by rw [mkN_nn]; omega) (by simpa [va_up] using hI)
theorem m_typeBindings (htg : PGr tk ty) (hty : CoM false tv tk c 30 35 [] ty) : CoM false tLi tk (max (max c 5) 5 + 1) 50 86 [] (pTbs tk ty) :=
  m_moreL (s := 2) (fun _ hn _ _ _ => m_tbB htg hty hn) (by omega) (by omega) (fun n vs A => by rw [eM_typeBindings]; rfl)
end MTD
