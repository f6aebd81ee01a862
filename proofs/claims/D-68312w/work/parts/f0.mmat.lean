/-! M: rules, fixities are taken back -/
section MMA
variable {α β : Type} {em : α → V} {em2 : β → V} {tk : TK} {f f1 f' fo : FM} {j j1 j' j0 : AS} {B B1 a : Nat} {r : Option (Option V × AS)} {ps ps' : PS} {m n k k' : Nat} {LV : AL}
theorem m_match_body {pat E : PA TR} {c o : Nat} {base : List V} {g : Nat × List V} {w : V} (hpg : PGr tk pat) (hpt : CoP false tk c 30 18 [] pat) (hEg : PGr tk E) (hE : CoM false tv tk c 30 12 [] E) (hn : max c 5 ≤ n) :
    BodyD false tk n o base g (pRul tk pat E) (fun L => L 1 = w) 60 (zSeq (zSet 2 (aF 13)) (zSeq (zSet 3 (aCall (aM n) 18 [])) (zSeq (zEx (aCall (aM n) 33 [(aK 46)])) (zAdd 17 (aCall (aM n) 58 [(aL 3), (aCall (aM n) 12 []), (aL 2)]))))) := by
  intro α em fo F don ps j j0 LV K B0 C0 B hP hj hI hK
  obtain ⟨ht, hT, hps, ha, hop, hfr, hS⟩ := id hP
  have hA : ALM = 30000 := rfl
  have hlen : o + (base ++ don.map tv).length < ALM := by simp only [fSm] at hS; omega
  rw [rn_seq, rn_set, aF_e, ab_ok, sM_f13, rn_seq, rn_set, aCall_nil]
  show CTm false em tk fo j0 B _ (pb (pb pat fun p => pNeed tk 46 (pb E fun e => pret (tRule p e (nI ps.1)))) F ps)
  rw [pb_pb]
  refine ctm_stP hpt hpg (by omega) (by omega) hP hj (fun p ps1 j1 g1 hP1 hj1 hB1 => ?_) (fun v ps3 j3 c1 c2 c3 c4 c5 => ?_)
  · rw [rn_seq, rn_ex, aCall_1, aK_e, ab_ok, pNeed_pb]
    refine ctm_need (by omega) hP1 hj1 fun hl1 => ?_
    rw [pb_pb, rn_add]
    simp only [aCall, aArgs, aL, ab_ok, ab_ab, A0of, va_up, List.length_nil, List.length_cons, List.getD_cons_zero, List.getD_cons_succ, List.getD_nil, if_true, if_false, Bool.not_not, Bool.not_true, Bool.not_false, Bool.false_eq_true, reduceIte, Nat.reduceSub, Nat.reduceAdd, Nat.reduceEqDiff]
    refine ctm_st hE hEg (by omega) (by omega) (hP1.one hl1) hj1 fun e ps2 j2 g2 hP2 hj2 hB2 => ?_
    dsimp only at hB2
    have hS2 := hP2.2.2.2.2.2.2
    have er := m_rule (m := n) (ps := ps2) (f := ((o, base ++ don.map tv), g)) (j := j2) (a := p) (b := e) (p := nI ps.1) (by omega) (by omega)
    simp only [ab_ok, er]
    rw [ma17 hlen, og_ok, pret_pb, show base ++ don.map tv ++ [tv (tRule p e (nI ps.1))] = base ++ (don ++ [tRule p e (nI ps.1)]).map tv by simp]
    exact hK _ ps2 (mkN j2 1) _ (PG.trans (PGe.trans g1.e (PG.one g1.2.2.2.2 hl1).e) g2) (hj2.mk _) (by rw [mkN_nn]; omega) (by simpa [va_up] using hI)
  · rw [rn_seq, rn_ex, aCall_1, aK_e, ab_ok, m_needF (by omega) ht c2 c4 (by decide), ab_no]
    exact ctm_flt c3
/-- a list that a do loop reads -/
theorem m_moreL {t c s0 sl : Nat} {s : Int32} {p : PA TR} {body : Nat → ZX} (hb : ∀ n, c ≤ n → ∀ o base g, BodyD false tk n o base g p (fun L => L 1 = .int (nI (o + base.length))) sl (body n)) (hs : s0 + 1 ≤ sl) (hsl : sl ≤ 100)
    (hz : ∀ n vs A, aM (n + 1) t vs A = amth true true false 0 (zSeq (zSet 1 (aSz 17)) (zSeq (zDo LN (body n) (bZ .ne (aCall (aM n) 9 [(aK s)]))) (zRet (aCall (aM n) 42 [(aL 1)])))) vs A) : CoM false tLi tk (max c 5 + 1) s0 t [] (grE tk (pMore tk s p LF)) := by
  intro k ps f j B hk hP hB
  obtain ⟨n, rfl⟩ := suc1 (m := k) (by omega)
  obtain ⟨⟨o, base⟩, g⟩ := f
  have hA : ALM = 30000 := rfl
  refine ctm_gE ?_
  rw [hz, amth_run, List.length_nil, if_pos rfl, fin_ok, run_seq, run_set, aSz_e, kS_ok, sM_R17, sM_o17, run_seq, run_rn, ← pb_ret (pMore tk s p LF)]
  have hP' : PRM tk ps ((o, base ++ ([] : List TR).map tv), g) j (n + 1) := by simpa using hP
  have := m_more (em := tLi) (fo := ((o, base), g)) (W := false) (s := s) (by omega) hsl (by omega) (hb n (by omega) o base g) LN LF [] ps j j (va_up (A0of true []) 1 (.int (nI (o + base.length)))) (run [zRet (aCall (aM n) 42 [(aL 1)])] nk) nk nk (j.nn + 100 * (Tn tk - ps.1)) B (fun l => pret l) (by decide) hP' (jfm.rf j) rfl (Nat.le_refl _) fun ts ps' j' LV' r1 r2 r3 r4 r5 r6 => ?_
  · simpa using this
  · rw [List.nil_append, fSm_push, List.length_map] at r5
    rw [List.nil_append]
    have hmul : sl * ts.length ≥ s0 + ts.length := by
      have h1 : sl * ts.length ≥ (s0 + 1) * ts.length := Nat.mul_le_mul_right _ hs
      have h2 : (s0 + 1) * ts.length = s0 * ts.length + ts.length := by rw [Nat.add_mul, Nat.one_mul]
      have h3 : s0 * ts.length ≥ s0 * 1 := Nat.mul_le_mul_left _ r2
      omega
    have el := m_list (m := n) (ps := ps') (j := j') (by omega) (o := o) (base := base) (items := ts) (g := g) (by omega) (by simp [fSm] at r5 ⊢; omega) (by omega)
    rw [run_ret, aCall_1, aL_e, r6, ab_ok, el]
    exact ctm_ret (r3.mk _) (by rw [mkN_nn]; omega)
theorem m_match {pat E : PA TR} {c : Nat} (hpg : PGr tk pat) (hpt : CoP false tk c 30 18 [] pat) (hEg : PGr tk E) (hE : CoM false tv tk c 30 12 [] E) : CoM false tLi tk (max (max c 5) 5 + 1) 40 17 [] (pMch tk pat E) :=
  m_moreL (s := 44) (fun _ hn _ _ _ => m_match_body hpg hpt hEg hE hn) (by omega) (by omega) (fun n vs A => by rw [eM_match]; rfl)
/-! fixities -/
theorem chm_len (ch be : List Int32) (h : ch.length = be.length) : (chm ch be).length = 2 * ch.length := by
  unfold chm
  induction ch generalizing be with
  | nil => rfl
  | cons c ch ih =>
    cases be with
    | nil => simp at h
    | cons b be =>
      simp only [List.length_cons, Nat.add_right_cancel_iff] at h
      have := ih be h
      simp only [List.zip_cons_cons, List.flatMap_cons, List.length_append, List.length_cons, List.length_nil] at this ⊢
      omega
theorem chm_snoc (ch be : List Int32) (x v : Int32) (h : ch.length = be.length) : chm (ch ++ [x]) (be ++ [v]) = chm ch be ++ [x] ++ [v - 1] := by
  unfold chm
  rw [List.zip_append h, List.flatMap_append]
  simp
theorem sM_p5 (ch be : List Int32) : apR (stM ps f j) 5 (ints (chm ch be)) = stM (ps.1, ps.2.1, ps.2.2.1, ps.2.2.2.1, ch, be) f j := by
  unfold apR stM va_up
  refine Prod.ext rfl (Prod.ext (funext fun k => ?_) rfl)
  by_cases h : k = 5 <;> simp [h]
theorem apR_apR (A : AS) (k : Nat) (l l' : List V) : apR (apR A k l) k l' = apR A k l' := by
  unfold apR
  refine Prod.ext rfl (Prod.ext (funext fun i => ?_) rfl)
  show va_up (va_up A.R k l) k l' i = va_up A.R k l' i
  unfold va_up
  by_cases h : i = k <;> simp [h]
theorem m_setfx {x v : Int32} (hq : psOK ps.2.2.2) (hx : 0 ≤ x ∧ x ≤ 8191) : vset (stM ps f j) 4 (.int x) (.int (v - 1)) = some (stM (psFx ps (ps.2.2.2.1.set x.toNatClampNeg v, ps.2.2.2.2)) f j) := by
  obtain ⟨c1, c2⟩ := clamp_lt hx.1 hx.2
  have hl : (ints (fxm ps.2.2.2.1)).length = 8192 := by rw [ints_len]; simp [fxm, hq.1]
  have := vset_nI (A := stM ps f j) (k := 4) (n := x.toNatClampNeg) (v := .int (v - 1)) (by omega) (by simp only [sM_f13, sM_f14, sM_f11, sM_f19, sM_f20, sM_f21, sM_R17, sM_R18, sM_R4, sM_R5, sM_o17, sM_o18, sM_o4, sM_o5, sM_nn, sM_fl]; omega) (by simp only [sM_f13, sM_f14, sM_f11, sM_f19, sM_f20, sM_f21, sM_R17, sM_R18, sM_R4, sM_R5, sM_o17, sM_o18, sM_o4, sM_o5, sM_nn, sM_fl]; omega)
  rw [← c2] at this
  rw [this]
  simp only [sM_f13, sM_f14, sM_f11, sM_f19, sM_f20, sM_f21, sM_R17, sM_R18, sM_R4, sM_R5, sM_o17, sM_o18, sM_o4, sM_o5, sM_nn, sM_fl, Nat.sub_zero, ints_set]
  have e : (fxm ps.2.2.2.1).set x.toNatClampNeg (v - 1) = fxm (ps.2.2.2.1.set x.toNatClampNeg v) := by
    unfold fxm
    rw [List.map_set]
  rw [e, sM_p4]
  rfl
theorem m_undo_loop {mark : Nat} (N : Nat) : ∀ (q : FXS) (LV : AL), psOK q → q.2.1.length ≤ mark + N → q.2.1.length < 2 ^ 29 → mark < 2 ^ 29 → LV 1 = .int (nI (2 * mark)) → ∀ (K B C : KT),
    ∃ LV' : AL, rn (zWh (N + 1) (bCmp .gt (aSz 5) (aL 1)) (zSeq (zSet 2 (aPop 5)) (zAt 4 (aPop 5) (aL 2))) zSkip LV (stM (psFx ps q) f j)) K B C = K LV' (stM (psFx ps (fxBk mark q)) f j) := by
  have stop : ∀ (N : Nat) (q : FXS) (LV : AL) (K B C : KT), psOK q → q.2.1.length ≤ mark → mark < 2 ^ 29 → LV 1 = .int (nI (2 * mark)) → rn (zWh (N + 1) (bCmp .gt (aSz 5) (aL 1)) (zSeq (zSet 2 (aPop 5)) (zAt 4 (aPop 5) (aL 2))) zSkip LV (stM (psFx ps q) f j)) K B C = K LV (stM (psFx ps (fxBk mark q)) f j) := by
    intro N q LV K B C hq h1 h2 l1
    rw [fxBk_stop hq.2.2.1 h1, rn_wh]
    have e : decide (nI (2 * mark) < nI (0 + (ints (chm q.2.1 q.2.2)).length)) = false := decide_eq_false (nI_nlt (by rw [ints_len, chm_len _ _ hq.2.2.1]; omega) (by omega))
    have es : (stM (psFx ps q) f j).R 5 = ints (chm q.2.1 q.2.2) := rfl
    simp only [d10, eq_self, decide_true, decide_false, ti_b, b2i_t, b2i_f, aK, aL, aF, aSz, aBin, aDiv, aB, aAt, aNd, aArgs, aCall, aIf, bCmp, bZ, bAnd, bOr, bNot, bTT, bIf, ab_ok, ab_no, ab_none, ab_ab, ab_ite, aok_ok, aok_none, og_ok, og_none, vbin_i, vb8_i, vput_i, vI_i, cmp_i, hold_eq, hold_ne, hold_lt, hold_ge, hold_gt, hold_le, b2i_0, ss_b, ss_ite, oAdd, oSub, oMul, Option.bind_some, A0of, va_up, List.length_nil, List.length_cons, List.getD_cons_zero, List.getD_cons_succ, List.getD_nil, if_true, if_false, Bool.not_not, Bool.not_true, Bool.not_false, Bool.false_eq_true, reduceIte, Nat.reduceSub, Nat.reduceAdd, Nat.reduceEqDiff, es, sM_o5, l1, e]
  induction N with
  | zero =>
    intro q LV hq h1 h2 h3 l1 K B C
    exact ⟨LV, stop 0 q LV K B C hq (by omega) h3 l1⟩
  | succ N ih =>
    intro q LV hq h1 h2 h3 l1 K B C
    obtain ⟨fx, ch, be⟩ := q
    obtain ⟨b1, b2, b3, b4, b5⟩ := id hq
    dsimp only at b1 b2 b3 b4 b5 h1 h2
    by_cases hc : ch.length ≤ mark
    · exact ⟨LV, stop (N + 1) (fx, ch, be) LV K B C hq hc h3 l1⟩
    · rcases List.eq_nil_or_concat ch with hz | ⟨ch0, x, rfl⟩
      · rw [hz] at hc; simp at hc
      · rcases List.eq_nil_or_concat be with hz | ⟨be0, v, rfl⟩
        · rw [hz] at b3; simp at b3
        · simp only [List.concat_eq_append] at *
          simp only [List.length_append, List.length_cons, List.length_nil] at b3 h1 h2 hc
          have b3' : ch0.length = be0.length := by omega
          have hx := b4 x (by simp)
          have e : decide (nI (2 * mark) < nI (0 + (ints (chm (ch0 ++ [x]) (be0 ++ [v]))).length)) = true := by
            apply decide_eq_true
            rw [ints_len, chm_len _ _ (by simp [b3'])]
            apply nI_lt <;> simp <;> omega
          obtain ⟨LV', rr⟩ := ih (fx.set x.toNatClampNeg v, ch0, be0) (va_up LV 2 (.int (v - 1))) (psOK_set hq) (by dsimp only; omega) (by dsimp only; omega) h3 (by simpa [va_up] using l1) K B C
          refine ⟨LV', ?_⟩
          have es : (stM (psFx ps (fx, ch0 ++ [x], be0 ++ [v])) f j).R 5 = (ints (chm ch0 be0) ++ [.int x]) ++ [.int (v - 1)] := by
            show ints (chm (ch0 ++ [x]) (be0 ++ [v])) = _
            rw [chm_snoc _ _ _ _ b3', ints_app, ints_app]
            rfl
          have es2 : (apR (stM (psFx ps (fx, ch0 ++ [x], be0 ++ [v])) f j) 5 (ints (chm ch0 be0) ++ [.int x])).R 5 = ints (chm ch0 be0) ++ [.int x] := by
            show va_up (stM (psFx ps (fx, ch0 ++ [x], be0 ++ [v])) f j).R 5 (ints (chm ch0 be0) ++ [.int x]) 5 = _
            rw [va_up_self]
          have ec : bCmp .gt (aSz 5) (aL 1) LV (stM (psFx ps (fx, ch0 ++ [x], be0 ++ [v])) f j) = some (some true, stM (psFx ps (fx, ch0 ++ [x], be0 ++ [v])) f j) := by
            have es0 : (stM (psFx ps (fx, ch0 ++ [x], be0 ++ [v])) f j).R 5 = ints (chm (ch0 ++ [x]) (be0 ++ [v])) := rfl
            simp only [d10, eq_self, decide_true, decide_false, ti_b, b2i_t, b2i_f, aK, aL, aF, aSz, aBin, aDiv, aB, aAt, aNd, aArgs, aCall, aIf, bCmp, bZ, bAnd, bOr, bNot, bTT, bIf, ab_ok, ab_no, ab_none, ab_ab, ab_ite, aok_ok, aok_none, og_ok, og_none, vbin_i, vb8_i, vput_i, vI_i, cmp_i, hold_eq, hold_ne, hold_lt, hold_ge, hold_gt, hold_le, b2i_0, ss_b, ss_ite, oAdd, oSub, oMul, Option.bind_some, A0of, va_up, List.length_nil, List.length_cons, List.getD_cons_zero, List.getD_cons_succ, List.getD_nil, if_true, if_false, Bool.not_not, Bool.not_true, Bool.not_false, Bool.false_eq_true, reduceIte, Nat.reduceSub, Nat.reduceAdd, Nat.reduceEqDiff, es0, sM_o5, l1, e]
          have ep : apR (apR (stM (psFx ps (fx, ch0 ++ [x], be0 ++ [v])) f j) 5 (ints (chm ch0 be0) ++ [.int x])) 5 (ints (chm ch0 be0)) = stM (psFx ps (fx, ch0, be0)) f j := by
            rw [apR_apR, sM_p5]
            rfl
          have hset := m_setfx (ps := psFx ps (fx, ch0, be0)) (f := f) (j := j) (x := x) (v := v) ⟨b1, b2, b3', fun y hy => b4 y (List.mem_append_left _ hy), fun y hy => b5 y (List.mem_append_left _ hy)⟩ hx
          rw [fxBk_step (by omega) (by omega), rn_wh, ec, ab_ok, if_pos rfl, rn_seq, rn_set, pop_ok es, ab_ok, rn_at, pop_ok es2, ab_ok, aL_e, ab_ok, ep, va_up_self, hset, og_ok, rn_skip]
          exact rr
theorem m_undo (hm : 1 ≤ m) {mark : Nat} (hq : psOK ps.2.2.2) (h1 : ps.2.2.2.2.1.length < 99999) (h2 : mark < 2 ^ 29) : aM m 62 [.int (nI (2 * mark))] (stM ps f j) = some (some (.int 0), stM (psFx ps (fxBk mark ps.2.2.2)) f j) := by
  obtain ⟨n, rfl⟩ := suc1 hm
  obtain ⟨LV', rr⟩ := m_undo_loop (ps := ps) (f := f) (j := j) (mark := mark) 99999 ps.2.2.2 (A0of true [.int (nI (2 * mark))]) hq (by omega) (by omega) h2 rfl (run [zRet0] nk) nk nk
  rw [eM_undo, zM_undo, amth_run, if_pos (show [Term.int (nI (2 * mark))].length = 1 from rfl), run_seq, run_rn, show LN = 99999 + 1 from rfl]
  have e : psFx ps ps.2.2.2 = ps := rfl
  rw [e] at rr
  rw [rr, run_ret0, fin_v]
end MMA
