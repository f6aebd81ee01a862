/-! M: open, fixities -/
section MFX
variable {α β : Type} {W : Bool} {em : α → V} {em2 : β → V} {tk : TK} {f f1 f' fo : FM} {j j1 j' j0 : AS} {B B1 a : Nat} {r : Option (Option V × AS)} {ps ps' : PS} {m n k k' : Nat} {LV : AL} {zs : List ZX} {ty pat E inf : PA TR} {c b : Nat}
abbrev zOpB (n : Nat) : ZX := (zSeq (zIf (bAnd (bCmp .ne (aCall (aM n) 8 []) (aK 2)) (bCmp .ne (aCall (aM n) 8 []) (aK 5))) (zEx (aCall (aM n) 10 [])) zSkip) (zSeq (zSet 2 (aIf (bCmp .eq (aCall (aM n) 8 []) (aK 5)) (aK 1) (aK 0))) (zSeq (zAdd 17 (aCall (aM n) 16 [(aK 11), (aIf (bZ .ne (aL 2)) (aK (-1)) (aAt 1 (aF 13))), (aIf (bZ .ne (aL 2)) (aAt 1 (aF 13)) (aK (-1))), (aK (-1)), (aF 13)])) (zOpF oAdd 13 (aK 1)))))
theorem m_opnB (hn : 1 ≤ n) (ht : tkOK tk) (hT : TKM tk j) (ha : ps.1 ≤ Tn tk) (LV : AL) : (bOr (bCmp .eq (aCall (aM n) 8 []) (aK 2)) (bCmp .eq (aCall (aM n) 8 []) (aK 5))) LV (stM ps f j) = some (some (opnB tk ps.1), stM ps f j) := bOr_e (mK n hn ht hT ha 2) (mK n hn ht hT ha 5)
theorem m_opened_loop {o : Nat} {base : List V} {g : Nat × List V} {w : V} (hn : 3 ≤ n) (N : Nat) :
    ∀ (M : Nat) (don : List TR) (ps : PS) (j j0 : AS) (LV : AL) (K B0 C0 : KT) (B1 B : Nat) (F : List TR → PA α), M ≤ N → PRM tk ps ((o, base ++ don.map tv), g) j (n + 1) → jfm false j0 j → LV 1 = w → j.nn + 100 * (Tn tk - ps.1) ≤ B1 →
    (∀ ts ps' j' LV', PG tk ps ps' → 1 ≤ ts.length → jfm false j0 j' → j'.nn + 100 * (Tn tk - ps'.1) + 60 * ts.length ≤ B1 → fSm ((o, base ++ (don ++ ts).map tv), g) + j'.nn + 8 * (n + 1) + 100 * (Tn tk - ps'.1) ≤ 29000 → LV' 1 = w → CTm false em tk fo j0 B (K LV' (stM ps' ((o, base ++ (don ++ ts).map tv), g) j')) (F ts ps')) →
    CTm false em tk fo j0 B (rn (zDo N (zOpB n) (bOr (bCmp .eq (aCall (aM n) 8 []) (aK 2)) (bCmp .eq (aCall (aM n) 8 []) (aK 5))) LV (stM ps ((o, base ++ don.map tv), g) j)) K B0 C0) (pb (pOpn tk M) F ps) := by
  induction N with
  | zero =>
    intro M don ps j j0 LV K B0 C0 B1 B F hM
    have : M = 0 := by omega
    subst this
    intros
    exact trivial
  | succ N ih =>
    intro M don ps j j0 LV K B0 C0 B1 B F hM hP hj hI hB hK
    cases M with
    | zero => exact trivial
    | succ M =>
      obtain ⟨ht, hT, hps, ha, hop, hfr, hS⟩ := id hP
      have hA : ALM = 30000 := rfl
      have hlen : o + (base ++ don.map tv).length < ALM := by simp only [fSm] at hS; omega
      rw [rn_do, rn_seq, rn_if, bAnd_e (mKn n (by omega) ht hT ha 2) (mKn n (by omega) ht hT ha 5), ab_ok]
      have hc0 : (!decide (kAt tk ps.1 = 2) && !decide (kAt tk ps.1 = 5)) = !opnB tk ps.1 := by
        unfold opnB
        cases decide (kAt tk ps.1 = 2) <;> cases decide (kAt tk ps.1 = 5) <;> rfl
      rw [hc0]
      cases hc : opnB tk ps.1 with
      | false =>
        rw [Bool.not_false, if_pos rfl, rn_ex, aCall_nil, m_stop (by omega), ab_no, pb_flt (k := 1) (by unfold pOpn; rw [if_neg (by rw [opnB_iff, hc]; decide)])]
        exact ctm_flt hj
      | true =>
        have hlt : ps.1 < Tn tk := by
          refine k_lt ?_
          rcases opnB_iff.mpr hc with h | h <;> rw [h] <;> decide
        have hv := mAt1 (LV := va_up LV 2 (.int (b2i (decide (kAt tk ps.1 = 5))))) (f := ((o, base ++ don.map tv), g)) ht hT hlt mF13
        have ea : aCall (aM n) 16 [(aK 11), (aIf (bZ .ne (aL 2)) (aK (-1)) (aAt 1 (aF 13))), (aIf (bZ .ne (aL 2)) (aAt 1 (aF 13)) (aK (-1))), (aK (-1)), (aF 13)] (va_up LV 2 (.int (b2i (decide (kAt tk ps.1 = 5))))) (stM ps ((o, base ++ don.map tv), g) j) = some (some (tv (opn1 tk ps.1)), stM ps ((o, base ++ don.map tv), g) (mkN j 1)) := by
          have d2 : bZ .ne (aL 2) (va_up LV 2 (.int (b2i (decide (kAt tk ps.1 = 5))))) (stM ps ((o, base ++ don.map tv), g) j) = some (some (decide (kAt tk ps.1 = 5)), stM ps ((o, base ++ don.map tv), g) j) := bZn_e (by rw [aL_e, va_up_self])
          unfold opn1
          by_cases h5 : kAt tk ps.1 = 5
          · rw [decide_eq_true h5] at d2 hv ⊢
            have em := m_makeN (m := n) (ps := ps) (f := ((o, base ++ don.map tv), g)) (j := j) (k := 11) (i := -1) (p := nI ps.1) (b := .int (vAt tk ps.1)) (c := .int (-1)) (by omega) (by omega) (by decide) (by decide) (by omega) rfl rfl
            simp only [aCall_5, aK_e, ab_ok, aIf_t d2, hv, aF_e, sM_f13, em, if_pos h5]
          · rw [decide_eq_false h5] at d2 hv ⊢
            have hnm : nmB tk ps.1 = true := by
              rcases opnB_iff.mpr hc with h | h
              · simp [nmB, h]
              · exact absurd h h5
            obtain ⟨_, h0, h8⟩ := nm_val ht hnm
            have em := m_makeN (m := n) (ps := ps) (f := ((o, base ++ don.map tv), g)) (j := j) (k := 11) (i := vAt tk ps.1) (p := nI ps.1) (b := .int (-1)) (c := .int (-1)) (by omega) (by omega) (by decide) h8 (by omega) rfl rfl
            simp only [aCall_5, aK_e, ab_ok, aIf_f d2, hv, aF_e, sM_f13, em, if_neg h5]
        have psh : base ++ don.map tv ++ [tv (opn1 tk ps.1)] = base ++ (don ++ [opn1 tk ps.1]).map tv := by simp
        have hl : fSm ((o, base ++ (don ++ [opn1 tk ps.1]).map tv), g) = fSm ((o, base ++ don.map tv), g) + 1 := by simp [fSm]; omega
        rw [Bool.not_true, if_neg (by decide), rn_skip, rn_seq, rn_set, aIf01 (mK n (by omega) ht hT ha 5), ab_ok, rn_seq, rn_add, ea, ab_ok, ma17 hlen, og_ok, rn_opF, aK_e, ab_ok, sM_f13, vbin_i, Option.bind_some, vput_i, og_ok, show oAdd (nI ps.1) 1 = nI (ps.1 + 1) from nI_1 _, sM_p13, psh]
        have g1 := PG.one hps hlt
        have hP1 : PRM tk (ps.1 + 1, ps.2) ((o, base ++ (don ++ [opn1 tk ps.1]).map tv), g) (mkN j 1) (n + 1) := hP.at (W := false) (Nat.le_succ _) hlt ((jfm.rf j).mk _) (by rw [hl, mkN_nn]; omega)
        rw [m_opnB (by omega) ht hP1.2.1 hP1.2.2.2.1, ab_ok]
        dsimp only
        cases hc2 : opnB tk (ps.1 + 1) with
        | true =>
          rw [if_pos rfl, pb_at (p' := pb (pOpn tk M) (fun l => pret (opn1 tk ps.1 :: l))) (ps' := (ps.1 + 1, ps.2)) (by rw [show pOpn tk (M + 1) ps = _ from rfl]; unfold opn1; simp only [pOpn]; rw [if_pos (opnB_iff.mpr hc), if_pos (opnB_iff.mpr hc2)]), pb_pb]
          refine ih M (don ++ [opn1 tk ps.1]) (ps.1 + 1, ps.2) (mkN j 1) j0 _ K B0 C0 (B1 - 60) B _ (by omega) hP1 (hj.mk _) (by simpa [va_up] using hI) (by rw [mkN_nn]; dsimp only; omega) fun ts ps'' j'' LV'' r1 r2 r3 r4 r5 r6 => ?_
          have := hK (opn1 tk ps.1 :: ts) ps'' j'' LV'' (PG.trans g1.e r1) (by simp) r3 (by simp; omega) (by simpa using r5) r6
          simpa [pret_pb] using this
        | false =>
          rw [if_neg (by decide), pb_val (v := [opn1 tk ps.1]) (ps' := (ps.1 + 1, ps.2)) (by unfold opn1; simp only [pOpn]; rw [if_pos (opnB_iff.mpr hc), if_neg (by rw [opnB_iff, hc2]; decide)])]
          exact hK [opn1 tk ps.1] (ps.1 + 1, ps.2) (mkN j 1) _ g1 (by simp) (hj.mk _) (by rw [mkN_nn]; dsimp only; simp; omega) (by rw [hl, mkN_nn]; dsimp only; omega) (by simpa [va_up] using hI)
theorem m_opened : CoM false tLi tk 5 50 90 [] (grE tk (pOpn tk LF)) := by
  intro k ps f j B hk hP hB
  obtain ⟨n, rfl⟩ := suc1 (m := k) (by omega)
  obtain ⟨⟨o, base⟩, g⟩ := f
  have hA : ALM = 30000 := rfl
  refine ctm_gE ?_
  rw [eM_opened, zM_opened, amth_run, List.length_nil, if_pos rfl, fin_ok, run_seq, run_set, aSz_e, kS_ok, sM_R17, sM_o17, run_seq, run_rn, ← pb_ret (pOpn tk LF)]
  have hP' : PRM tk ps ((o, base ++ ([] : List TR).map tv), g) j (n + 1) := by simpa using hP
  have := m_opened_loop (em := tLi) (fo := ((o, base), g)) (n := n) (o := o) (base := base) (g := g) (w := .int (nI (o + base.length))) (by omega) LN LF [] ps j j (va_up (A0of true []) 1 (.int (nI (o + base.length)))) (run [zRet (aCall (aM n) 42 [(aL 1)])] nk) nk nk (j.nn + 100 * (Tn tk - ps.1)) B (fun l => pret l) (by decide) hP' (jfm.rf j) rfl (Nat.le_refl _) fun ts ps' j' LV' r1 r2 r3 r4 r5 r6 => ?_
  · simpa using this
  · rw [List.nil_append, fSm_push, List.length_map] at r5
    rw [List.nil_append]
    have el := m_list (m := n) (ps := ps') (j := j') (by omega) (o := o) (base := base) (items := ts) (g := g) (by omega) (by simp [fSm] at r5 ⊢; omega) (by omega)
    rw [run_ret, aCall_1, aL_e, r6, ab_ok, el]
    exact ctm_ret (r3.mk _) (by rw [mkN_nn]; omega)
/-! fixities are changed -/
theorem m_change (hm : 1 ≤ m) {x v : Int32} (hq : psOK ps.2.2.2) (hl : 2 * ps.2.2.2.2.1.length + 1 < ALM) (hx : 0 ≤ x ∧ x ≤ 8191) (hv : 0 ≤ v ∧ v ≤ 20) : aM m 80 [.int x, .int (v - 1)] (stM ps f j) = some (some (.int 0), stM (psFx ps (fxCh x v ps.2.2.2)) f j) := by
  obtain ⟨n, rfl⟩ := suc1 hm
  obtain ⟨a1, a2, a3, a4, a5⟩ := id hq
  have hk := fxCh_ok hq hx hv
  have hA : ALM = 30000 := rfl
  have hlen : (ints (chm ps.2.2.2.2.1 ps.2.2.2.2.2)).length = 2 * ps.2.2.2.2.1.length := by rw [ints_len, chm_len _ _ a3]
  rw [eM_change, zM_change, amth_run, if_pos (show [Term.int x, Term.int (v - 1)].length = 2 from rfl), run_seq, run_add, aL_e, kAD_ok, vadd_ok (by simp only [sM_f13, sM_f14, sM_f11, sM_f19, sM_f20, sM_f21, sM_R17, sM_R18, sM_R4, sM_R5, sM_o17, sM_o18, sM_o4, sM_o5, sM_nn, sM_fl]; omega), og_ok, run_seq, run_add]
  have e4 : aAt 4 (aL 1) (A0of true [.int x, .int (v - 1)]) (apR (stM ps f j) 5 ((stM ps f j).R 5 ++ [.int x])) = some (some (.int (fxA ps.2.2.2.1 x - 1)), apR (stM ps f j) 5 ((stM ps f j).R 5 ++ [.int x])) := by
    unfold aAt
    rw [aL_e, ab_ok]
    show aok (aix 0 (ints (fxm ps.2.2.2.1)) (.int x)) _ = _
    rw [fxm_at a1 hx.1 hx.2]
    rfl
  have e5 : (apR (stM ps f j) 5 ((stM ps f j).R 5 ++ [.int x])).R 5 = (stM ps f j).R 5 ++ [.int x] := by
    show va_up (stM ps f j).R 5 ((stM ps f j).R 5 ++ [.int x]) 5 = _
    rw [va_up_self]
  have e6 : (apR (stM ps f j) 5 ((stM ps f j).R 5 ++ [.int x])).of 5 = 0 := rfl
  have ee : (A0of true [.int x, .int (v - 1)]) 1 = .int x := rfl
  rw [ee, e4, kAD_ok, vadd_ok (by rw [e5, e6]; simp only [sM_f13, sM_f14, sM_f11, sM_f19, sM_f20, sM_f21, sM_R17, sM_R18, sM_R4, sM_R5, sM_o17, sM_o18, sM_o4, sM_o5, sM_nn, sM_fl, List.length_append, List.length_cons, List.length_nil]; omega), og_ok, e5, apR_apR]
  have e7 : (stM ps f j).R 5 ++ [.int x] ++ [.int (fxA ps.2.2.2.1 x - 1)] = ints (chm (ps.2.2.2.2.1 ++ [x]) (ps.2.2.2.2.2 ++ [fxA ps.2.2.2.1 x])) := by
    rw [chm_snoc _ _ _ _ a3, ints_app, ints_app]
    rfl
  rw [e7, sM_p5, run_seq, run_at, aL_e, kT1_ok, aL_e, kT2_ok]
  have hset := m_setfx (ps := (ps.1, ps.2.1, ps.2.2.1, ps.2.2.2.1, ps.2.2.2.2.1 ++ [x], ps.2.2.2.2.2 ++ [fxA ps.2.2.2.1 x])) (f := f) (j := j) (x := x) (v := v) ⟨a1, a2, hk.2.2.1, hk.2.2.2.1, hk.2.2.2.2⟩ hx
  have ee2 : (A0of true [.int x, .int (v - 1)]) 2 = .int (v - 1) := rfl
  rw [ee, ee2, hset, og_ok, run_ret0, fin_v]
  rfl
theorem chm_get : ∀ (ch be : List Int32), ch.length = be.length → ∀ (i : Nat) (h : i < ch.length), (chm ch be).getD (2 * i) 0 = ch[i] := by
  intro ch
  induction ch with
  | nil => intro be _ i h; simp at h
  | cons x ch ih =>
    intro be hl i h
    cases be with
    | nil => simp at hl
    | cons v be =>
      have e : chm (x :: ch) (v :: be) = x :: (v - 1) :: chm ch be := rfl
      rw [e]
      cases i with
      | zero => rfl
      | succ i =>
        rw [show 2 * (i + 1) = 2 * i + 1 + 1 from by omega, List.getD_cons_succ, List.getD_cons_succ, ih be (by simpa using hl) i (by simpa using h)]
        rfl
def fpm (l : List (Int32 × Int32)) : List V := l.flatMap fun c => [.int c.1, .int (c.2 - 1)]
theorem fpm_len (l : List (Int32 × Int32)) : (fpm l).length = 2 * l.length := by
  induction l with
  | nil => rfl
  | cons c l ih => simp only [fpm, List.flatMap_cons, List.length_append, List.length_cons, List.length_nil] at ih ⊢; omega
theorem m_fg1 {o : Nat} {g : Nat × List V} (hq : psOK ps.2.2.2) (hl : ps.2.2.2.2.1.length ≤ 400) (N : Nat) : ∀ (i : Nat) (row : List V) (LV : AL) (K B C : KT), ps.2.2.2.2.1.length - i ≤ N → i < 2 ^ 29 → o + row.length + 2 * (ps.2.2.2.2.1.length - i) < ALM → LV 4 = .int (nI (2 * i)) →
    ∃ LV' : AL, (∀ k, k ≠ 4 → LV' k = LV k) ∧ rn (zWh (N + 1) (bCmp .lt (aL 4) (aSz 5)) (zSeq (zAdd 17 (aAt 5 (aL 4))) (zAdd 17 (aAt 4 (aAt 5 (aL 4))))) (zInc 4 2) LV (stM ps ((o, row), g) j)) K B C = K LV' (stM ps ((o, row ++ fpm ((ps.2.2.2.2.1.drop i).map fun x => (x, fxA ps.2.2.2.1 x))), g) j) := by
  obtain ⟨b1, b2, b3, b4, b5⟩ := id hq
  have hlen : (ints (chm ps.2.2.2.2.1 ps.2.2.2.2.2)).length = 2 * ps.2.2.2.2.1.length := by rw [ints_len, chm_len _ _ b3]
  have stop : ∀ (N i : Nat) (row : List V) (LV : AL) (K B C : KT), ps.2.2.2.2.1.length ≤ i → i < 2 ^ 29 → LV 4 = .int (nI (2 * i)) → rn (zWh (N + 1) (bCmp .lt (aL 4) (aSz 5)) (zSeq (zAdd 17 (aAt 5 (aL 4))) (zAdd 17 (aAt 4 (aAt 5 (aL 4))))) (zInc 4 2) LV (stM ps ((o, row), g) j)) K B C = K LV (stM ps ((o, row ++ fpm ((ps.2.2.2.2.1.drop i).map fun x => (x, fxA ps.2.2.2.1 x))), g) j) := by
    intro N i row LV K B C h1 h2 h4
    have e : decide (nI (2 * i) < nI (0 + (ints (chm ps.2.2.2.2.1 ps.2.2.2.2.2)).length)) = false := decide_eq_false (nI_nlt (by omega) (by omega))
    rw [rn_wh, List.drop_eq_nil_of_le h1]
    simp only [d10, eq_self, decide_true, decide_false, ti_b, b2i_t, b2i_f, aK, aL, aF, aSz, aBin, aDiv, aB, aAt, aNd, aArgs, aCall, aIf, bCmp, bZ, bAnd, bOr, bNot, bTT, bIf, ab_ok, ab_no, ab_none, ab_ab, ab_ite, aok_ok, aok_none, og_ok, og_none, vbin_i, vb8_i, vput_i, vI_i, cmp_i, hold_eq, hold_ne, hold_lt, hold_ge, hold_gt, hold_le, b2i_0, ss_b, ss_ite, oAdd, oSub, oMul, Option.bind_some, A0of, va_up, List.length_nil, List.length_cons, List.getD_cons_zero, List.getD_cons_succ, List.getD_nil, if_true, if_false, Bool.not_not, Bool.not_true, Bool.not_false, Bool.false_eq_true, reduceIte, Nat.reduceSub, Nat.reduceAdd, Nat.reduceEqDiff, sM_f13, sM_f14, sM_f11, sM_f19, sM_f20, sM_f21, sM_R17, sM_R18, sM_R4, sM_R5, sM_o17, sM_o18, sM_o4, sM_o5, sM_nn, sM_fl, h4, e]
    simp [fpm]
  induction N with
  | zero =>
    intro i row LV K B C h1 h2 h3 h4
    exact ⟨LV, fun _ _ => rfl, stop 0 i row LV K B C (by omega) h2 h4⟩
  | succ N ih =>
    intro i row LV K B C h1 h2 h3 h4
    by_cases hi : i < ps.2.2.2.2.1.length
    · have e : decide (nI (2 * i) < nI (0 + (ints (chm ps.2.2.2.2.1 ps.2.2.2.2.2)).length)) = true := decide_eq_true (nI_lt (by omega) (by omega))
      have hx := b4 _ (List.getElem_mem hi)
      have a1 : aix 0 (ints (chm ps.2.2.2.2.1 ps.2.2.2.2.2)) (.int (nI (2 * i))) = some (.int (ps.2.2.2.2.1[i])) := by rw [aix_ints (by rw [chm_len _ _ b3]; omega) (by rw [chm_len _ _ b3]; omega), chm_get _ _ b3 i hi]
      have a2 : aix 0 (ints (fxm ps.2.2.2.1)) (.int (ps.2.2.2.2.1[i])) = some (.int (fxA ps.2.2.2.1 ps.2.2.2.2.1[i] - 1)) := fxm_at b1 hx.1 hx.2
      have x1 := ma17 (ps := ps) (f := ((o, row), g)) (j := j) (v := .int (ps.2.2.2.2.1[i])) (by dsimp only; omega)
      have x2 := ma17 (ps := ps) (f := ((o, row ++ [.int (ps.2.2.2.2.1[i])]), g)) (j := j) (v := .int (fxA ps.2.2.2.1 ps.2.2.2.2.1[i] - 1)) (by dsimp only; simp; omega)
      obtain ⟨LV', r1, r2⟩ := ih (i + 1) (row ++ [.int (ps.2.2.2.2.1[i])] ++ [.int (fxA ps.2.2.2.1 ps.2.2.2.2.1[i] - 1)]) (va_up LV 4 (.int (nI (2 * (i + 1))))) K B C (by omega) (by omega) (by simp; omega) rfl
      refine ⟨LV', fun k hk => (r1 k hk).trans (va_up_ne _ _ hk), ?_⟩
      have ei : nI (2 * i) + 2 = nI (2 * (i + 1)) := by rw [nI_2]; rfl
      rw [rn_wh]
      simp only [amth_eq, rn_seq, rn_if, rn_set, rn_inc, rn_ex, rn_ret, rn_ret0, rn_skip, rn_putF, rn_opF, rn_opU, rn_putS, rn_opS, rn_at, rn_atB, rn_add, rn_swap, rn_sw, rn_brk, rn_cnt, fin_ok, fin_ab, fin_ite, fin_og, fin_b, fin_0, fin_1, fin_v, fin_no, fin_none, d10, eq_self, decide_true, decide_false, ti_b, b2i_t, b2i_f, aK, aL, aF, aSz, aBin, aDiv, aB, aAt, aNd, aArgs, aCall, aIf, bCmp, bZ, bAnd, bOr, bNot, bTT, bIf, ab_ok, ab_no, ab_none, ab_ab, ab_ite, aok_ok, aok_none, og_ok, og_none, vbin_i, vb8_i, vput_i, vI_i, cmp_i, hold_eq, hold_ne, hold_lt, hold_ge, hold_gt, hold_le, b2i_0, ss_b, ss_ite, oAdd, oSub, oMul, Option.bind_some, A0of, va_up, List.length_nil, List.length_cons, List.getD_cons_zero, List.getD_cons_succ, List.getD_nil, if_true, if_false, Bool.not_not, Bool.not_true, Bool.not_false, Bool.false_eq_true, reduceIte, Nat.reduceSub, Nat.reduceAdd, Nat.reduceEqDiff, sM_f13, sM_f14, sM_f11, sM_f19, sM_f20, sM_f21, sM_R17, sM_R18, sM_R4, sM_R5, sM_o17, sM_o18, sM_o4, sM_o5, sM_nn, sM_fl, h4, e, a1, a2, x1, x2, ei]
      rw [r2, List.drop_eq_getElem_cons hi]
      simp only [fpm, List.map_cons, List.flatMap_cons, List.append_assoc, List.cons_append, List.nil_append]
    · exact ⟨LV, fun _ _ => rfl, stop (N + 1) i row LV K B C (by omega) h2 h4⟩
theorem m_fg2 {o : Nat} {g : Nat × List V} (hn : 1 ≤ n) (N : Nat) : ∀ (cs : List (Int32 × Int32)) (pre : List V) (q : FXS) (LV : AL) (K B C : KT), cs.length ≤ N → psOK q → 2 * (q.2.1.length + cs.length) + 1 < ALM → (∀ c ∈ cs, (0 ≤ c.1 ∧ c.1 ≤ 8191) ∧ 0 ≤ c.2 ∧ c.2 ≤ 20) → o + pre.length + 2 * cs.length < 2 ^ 30 → LV 4 = .int (nI (o + pre.length)) →
    ∃ LV' : AL, (∀ k, k ≠ 4 → LV' k = LV k) ∧ rn (zWh (N + 1) (bCmp .lt (aL 4) (aSz 17)) (zEx (aCall (aM n) 80 [(aAt 17 (aL 4)), (aAt 17 (aBin oAdd (aL 4) (aK 1)))])) (zInc 4 2) LV (stM (psFx ps q) ((o, pre ++ fpm cs), g) j)) K B C = K LV' (stM (psFx ps (cs.foldl (fun q c => fxCh c.1 c.2 q) q)) ((o, pre ++ fpm cs), g) j) := by
  have stop : ∀ (N : Nat) (pre : List V) (q : FXS) (LV : AL) (K B C : KT), o + pre.length < 2 ^ 30 → LV 4 = .int (nI (o + pre.length)) → rn (zWh (N + 1) (bCmp .lt (aL 4) (aSz 17)) (zEx (aCall (aM n) 80 [(aAt 17 (aL 4)), (aAt 17 (aBin oAdd (aL 4) (aK 1)))])) (zInc 4 2) LV (stM (psFx ps q) ((o, pre ++ fpm []), g) j)) K B C = K LV (stM (psFx ps q) ((o, pre ++ fpm []), g) j) := by
    intro N pre q LV K B C h1 h4
    have e : decide (nI (o + pre.length) < nI (o + (pre ++ fpm []).length)) = false := decide_eq_false (nI_nlt (by simp [fpm]) (by omega))
    rw [rn_wh]
    simp only [d10, eq_self, decide_true, decide_false, ti_b, b2i_t, b2i_f, aK, aL, aF, aSz, aBin, aDiv, aB, aAt, aNd, aArgs, aCall, aIf, bCmp, bZ, bAnd, bOr, bNot, bTT, bIf, ab_ok, ab_no, ab_none, ab_ab, ab_ite, aok_ok, aok_none, og_ok, og_none, vbin_i, vb8_i, vput_i, vI_i, cmp_i, hold_eq, hold_ne, hold_lt, hold_ge, hold_gt, hold_le, b2i_0, ss_b, ss_ite, oAdd, oSub, oMul, Option.bind_some, A0of, va_up, List.length_nil, List.length_cons, List.getD_cons_zero, List.getD_cons_succ, List.getD_nil, if_true, if_false, Bool.not_not, Bool.not_true, Bool.not_false, Bool.false_eq_true, reduceIte, Nat.reduceSub, Nat.reduceAdd, Nat.reduceEqDiff, sM_f13, sM_f14, sM_f11, sM_f19, sM_f20, sM_f21, sM_R17, sM_R18, sM_R4, sM_R5, sM_o17, sM_o18, sM_o4, sM_o5, sM_nn, sM_fl, h4, e]
  induction N with
  | zero =>
    intro cs pre q LV K B C h1 h2 h3 h5 h6 h4
    have : cs = [] := List.eq_nil_of_length_eq_zero (by omega)
    subst this
    exact ⟨LV, fun _ _ => rfl, stop 0 pre q LV K B C (by simpa using h6) h4⟩
  | succ N ih =>
    intro cs pre q LV K B C h1 h2 h3 h5 h6 h4
    cases cs with
    | nil => exact ⟨LV, fun _ _ => rfl, stop (N + 1) pre q LV K B C (by simpa using h6) h4⟩
    | cons c cs =>
      simp only [List.length_cons] at h1 h3 h6
      have hc := h5 c List.mem_cons_self
      have er : pre ++ fpm (c :: cs) = pre ++ .int c.1 :: .int (c.2 - 1) :: fpm cs := rfl
      have er2 : pre ++ fpm (c :: cs) = (pre ++ [.int c.1]) ++ .int (c.2 - 1) :: fpm cs := by rw [er]; simp
      have er3 : pre ++ fpm (c :: cs) = (pre ++ [.int c.1, .int (c.2 - 1)]) ++ fpm cs := by rw [er]; simp
      have e : decide (nI (o + pre.length) < nI (o + (pre ++ fpm (c :: cs)).length)) = true := decide_eq_true (nI_lt (by rw [er]; simp) (by rw [List.length_append, fpm_len]; simp; omega))
      have a1 : aix o (pre ++ fpm (c :: cs)) (.int (nI (o + pre.length))) = some (.int c.1) := by rw [er]; exact aix_end rfl (by omega)
      have a2 : aix o (pre ++ fpm (c :: cs)) (.int (nI (o + pre.length + 1))) = some (.int (c.2 - 1)) := by rw [er2]; exact aix_end (by simp [Nat.add_assoc]) (by simp; omega)
      have ech := m_change (ps := psFx ps q) (f := ((o, pre ++ fpm (c :: cs)), g)) (j := j) (m := n) hn (x := c.1) (v := c.2) h2 (by show 2 * q.2.1.length + 1 < ALM; omega) hc.1 hc.2
      obtain ⟨LV', r1, r2⟩ := ih cs (pre ++ [.int c.1, .int (c.2 - 1)]) (fxCh c.1 c.2 q) (va_up LV 4 (.int (nI (o + pre.length + 2)))) K B C (by omega) (fxCh_ok h2 hc.1 hc.2) (by simp only [fxCh, List.length_append, List.length_cons, List.length_nil]; omega) (fun c hc => h5 c (List.mem_cons_of_mem _ hc)) (by simp; omega) (by simp [va_up, Nat.add_assoc])
      refine ⟨LV', fun k hk => (r1 k hk).trans (va_up_ne _ _ hk), ?_⟩
      rw [← er3] at r2
      have ei : nI (o + pre.length) + 2 = nI (o + pre.length + 2) := by rw [nI_2]
      rw [rn_wh]
      simp only [amth_eq, rn_seq, rn_if, rn_set, rn_inc, rn_ex, rn_ret, rn_ret0, rn_skip, rn_putF, rn_opF, rn_opU, rn_putS, rn_opS, rn_at, rn_atB, rn_add, rn_swap, rn_sw, rn_brk, rn_cnt, fin_ok, fin_ab, fin_ite, fin_og, fin_b, fin_0, fin_1, fin_v, fin_no, fin_none, d10, eq_self, decide_true, decide_false, ti_b, b2i_t, b2i_f, aK, aL, aF, aSz, aBin, aDiv, aB, aAt, aNd, aArgs, aCall, aIf, bCmp, bZ, bAnd, bOr, bNot, bTT, bIf, ab_ok, ab_no, ab_none, ab_ab, ab_ite, aok_ok, aok_none, og_ok, og_none, vbin_i, vb8_i, vput_i, vI_i, cmp_i, hold_eq, hold_ne, hold_lt, hold_ge, hold_gt, hold_le, b2i_0, ss_b, ss_ite, oAdd, oSub, oMul, Option.bind_some, A0of, va_up, List.length_nil, List.length_cons, List.getD_cons_zero, List.getD_cons_succ, List.getD_nil, if_true, if_false, Bool.not_not, Bool.not_true, Bool.not_false, Bool.false_eq_true, reduceIte, Nat.reduceSub, Nat.reduceAdd, Nat.reduceEqDiff, sM_f13, sM_f14, sM_f11, sM_f19, sM_f20, sM_f21, sM_R17, sM_R18, sM_R4, sM_R5, sM_o17, sM_o18, sM_o4, sM_o5, sM_nn, sM_fl, h4, e, a1, a2, nI_1, ech, ei]
      rw [show psFx (psFx ps q) (fxCh c.1 c.2 (psFx ps q).2.2.2) = psFx ps (fxCh c.1 c.2 q) from rfl, r2]
      rfl
theorem m_settle (hm : 2 ≤ m) {mark middle : Nat} (hq : psOK ps.2.2.2) (hl : ps.2.2.2.2.1.length ≤ 400) (h1 : mark < 2 ^ 29) (h2 : middle < 2 ^ 29) (hr : f.1.1 + f.1.2.length + 802 < ALM) : aM m 79 [.int (nI (2 * mark)), .int (nI (2 * middle))] (stM ps f j) = some (some (.int 0), stM (psFx ps (fxFg mark middle ps.2.2.2)) f j) := by
  obtain ⟨n, rfl⟩ := suc1 (m := m) (by omega)
  obtain ⟨⟨o, base⟩, g⟩ := f
  dsimp only at hr
  have hA : ALM = 30000 := rfl
  obtain ⟨L1, r1, r2⟩ := m_fg1 (ps := ps) (j := j) (o := o) (g := g) hq hl 99999 middle base (va_up (va_up (A0of true [.int (nI (2 * mark)), .int (nI (2 * middle))]) 3 (.int (nI (o + base.length)))) 4 (.int (nI (2 * middle)))) (run [zSeq (zEx (aCall (aM n) 62 [(aL 1)])) (zSeq (zSeq (zSet 4 (aL 3)) (zWh LN (bCmp .lt (aL 4) (aSz 17)) (zEx (aCall (aM n) 80 [(aAt 17 (aL 4)), (aAt 17 (aBin oAdd (aL 4) (aK 1)))])) (zInc 4 2))) (zSeq (zPutS 17 (aL 3)) zRet0))] nk) nk nk (by omega) h2 (by omega) rfl
  have l1 : L1 1 = .int (nI (2 * mark)) := r1 1 (by decide)
  have l3 : L1 3 = .int (nI (o + base.length)) := r1 3 (by decide)
  rw [eM_settle, zM_settle, amth_run, if_pos (show [Term.int (nI (2 * mark)), Term.int (nI (2 * middle))].length = 2 from rfl), run_seq, run_set, aSz_e, kS_ok, sM_R17, sM_o17, run_seq, run_seq, run_set, aL_e, kS_ok, run_rn, show LN = 99999 + 1 from rfl]
  have er : (va_up (A0of true [.int (nI (2 * mark)), .int (nI (2 * middle))]) 3 (.int (nI (o + base.length)))) 2 = .int (nI (2 * middle)) := rfl
  dsimp only
  rw [er, r2]
  have hbk := m_undo (ps := ps) (f := ((o, base ++ fpm ((ps.2.2.2.2.1.drop middle).map fun x => (x, fxA ps.2.2.2.1 x))), g)) (j := j) (m := n) (mark := mark) (by omega) hq (by omega) h1
  have hk1 := fxBk_ok (mark := mark) hq
  have hk2 := fxBk_len (mark := mark) (q := ps.2.2.2)
  obtain ⟨L2, s1, s2⟩ := m_fg2 (ps := ps) (j := j) (o := o) (g := g) (n := n) (by omega) 99999 ((ps.2.2.2.2.1.drop middle).map fun x => (x, fxA ps.2.2.2.1 x)) base (fxBk mark ps.2.2.2) (va_up L1 4 (.int (nI (o + base.length)))) (run [zSeq (zPutS 17 (aL 3)) zRet0] nk) nk nk (by simp; omega) hk1 (by simp; omega) (by
    intro c hc
    obtain ⟨x, hx, rfl⟩ := List.mem_map.mp hc
    exact ⟨hq.2.2.2.1 x (List.mem_of_mem_drop hx), fxA_ok hq x⟩) (by simp; omega) rfl
  have l32 : L2 3 = .int (nI (o + base.length)) := by rw [s1 3 (by decide)]; exact l3
  rw [run_seq, run_ex, aCall_1, aL_e, l1, ab_ok, hbk, kE_ok, run_seq, run_seq, run_set, aL_e, kS_ok, l3, run_rn, show LN = 99999 + 1 from rfl, s2, run_seq, run_putS, aL_e, l32, kPS_ok, vsize_nI (by omega) (by simp only [sM_f13, sM_f14, sM_f11, sM_f19, sM_f20, sM_f21, sM_R17, sM_R18, sM_R4, sM_R5, sM_o17, sM_o18, sM_o4, sM_o5, sM_nn, sM_fl]; omega) (by simp only [sM_f13, sM_f14, sM_f11, sM_f19, sM_f20, sM_f21, sM_R17, sM_R18, sM_R4, sM_R5, sM_o17, sM_o18, sM_o4, sM_o5, sM_nn, sM_fl]; simp), og_ok, run_ret0, fin_v, sM_p17]
  simp only [sM_f13, sM_f14, sM_f11, sM_f19, sM_f20, sM_f21, sM_R17, sM_R18, sM_R4, sM_R5, sM_o17, sM_o18, sM_o4, sM_o5, sM_nn, sM_fl, Nat.add_sub_cancel_left, List.take_left']
  rfl
abbrev zDiB (n : Nat) : ZX := (zSeq (zIf (bNot (bZ .ne (aCall (aM n) 20 []))) (zEx (aCall (aM n) 10 [])) zSkip) (zSeq (zEx (aCall (aM n) 80 [(aAt 1 (aF 13)), (aIf (bCmp .eq (aL 1) (aK 20)) (aK (-1)) (aIf (bCmp .eq (aL 1) (aK 16)) (aBin oMul (aK 2) (aL 2)) (aBin oAdd (aBin oMul (aK 2) (aL 2)) (aK 1))))])) (zOpF oAdd 13 (aK 1))))
theorem m_dirs {em : Unit → V} {v : Int32} (hem : em () = .int 0) (hn : 2 ≤ n) (hv : 0 ≤ v ∧ v ≤ 20) (hval : ∀ A : AS, (aIf (bCmp .eq (aL 1) (aK 20)) (aK (-1)) (aIf (bCmp .eq (aL 1) (aK 16)) (aBin oMul (aK 2) (aL 2)) (aBin oAdd (aBin oMul (aK 2) (aL 2)) (aK 1)))) LV A = some (some (.int (v - 1)), A)) (N : Nat) : ∀ (M : Nat) (q : PS), M + 1 ≤ N → PRM tk q f j (n + 1) → j.nn + 100 * (Tn tk - q.1) ≤ B →
    CTm false em tk f j B (fin false false (rn (zDo N (zDiB n) (bZ .ne (aCall (aM n) 20 [])) LV (stM q f j)) (run [zRet0] nk) nk nk)) (if nmB tk q.1 = true then pDirs tk v M q else pflt 1 q) := by
  induction N with
  | zero =>
    intro M q hM
    omega
  | succ N ih =>
    intro M q hM hP hB
    obtain ⟨ht, hT, hps, ha, ho, hfr, hS⟩ := id hP
    have hA : ALM = 30000 := rfl
    rw [rn_do, rn_seq, rn_if, bNot_e (mN n (by omega) ht hT ha), ab_ok]
    cases hc : nmB tk q.1 with
    | false =>
      rw [Bool.not_false, if_pos rfl, rn_ex, aCall_nil, m_stop (by omega), ab_no, if_neg (by decide), fin_no]
      exact ctm_flt (jfm.rf j)
    | true =>
      obtain ⟨hlt, h0, h8⟩ := nm_val ht hc
      have hlt' : q.1 < Tn tk := hlt
      have ech := m_change (ps := q) (f := f) (j := j) (m := n) (by omega) (x := vAt tk q.1) (v := v) hps (by omega) ⟨h0, h8⟩ hv
      rw [Bool.not_true, if_neg (by decide), rn_skip, rn_seq, rn_ex, aCall_2, mAt1 ht hT hlt mF13, ab_ok, hval, ab_ok, ech, ab_ok, rn_opF, aK_e, ab_ok, sM_f13, vbin_i, Option.bind_some, vput_i, og_ok, show oAdd (nI (psFx q (fxCh (vAt tk q.1) v q.2.2.2)).1) 1 = nI (q.1 + 1) from nI_1 _, sM_p13, if_pos rfl]
      cases M with
      | zero => exact trivial
      | succ M =>
        have hP1 : PRM tk (q.1 + 1, q.2.1, q.2.2.1, fxCh (vAt tk q.1) v q.2.2.2) f j (n + 1) := by
          refine ⟨ht, hT, fxCh_ok hps ⟨h0, h8⟩ hv, hlt', ho, ?_, ?_⟩
          · show q.2.2.1 + (q.2.2.2.2.1 ++ [vAt tk q.1]).length + 100 * (Tn tk - (q.1 + 1)) ≤ 14000
            simp
            omega
          · show _ + 100 * (Tn tk - (q.1 + 1)) ≤ 29000
            omega
        show CTm false em tk f j B (fin false false (ab (bZ .ne (aCall (aM n) 20 []) LV (stM (q.1 + 1, q.2.1, q.2.2.1, fxCh (vAt tk q.1) v q.2.2.2) f j)) _)) _
        rw [mN n (by omega) ht hT hP1.2.2.2.1, ab_ok]
        rw [show pDirs tk v (M + 1) q = pDirs tk v M (q.1 + 1, q.2.1, q.2.2.1, fxCh (vAt tk q.1) v q.2.2.2) by simp only [pDirs, hc, if_true]]
        have iq := ih M (q.1 + 1, q.2.1, q.2.2.1, fxCh (vAt tk q.1) v q.2.2.2) (by omega) hP1 (by dsimp only; omega)
        dsimp only at iq ⊢
        cases hc2 : nmB tk (q.1 + 1) with
        | true =>
          rw [hc2, if_pos rfl] at iq
          rw [if_pos rfl]
          exact iq
        | false =>
          rw [if_neg (by decide), run_ret0, fin_v, ← hem]
          cases M with
          | zero => exact trivial
          | succ M =>
            simp only [pDirs, hc2, Bool.false_eq_true, if_false]
            exact ctm_ret (jfm.rf j) (by dsimp only; omega)
theorem m_changeFixities {s : Int32} (hs : s = 16 ∨ s = 17 ∨ s = 20) : CoM false (fun _ : Unit => Term.int 0) tk 5 0 91 [.int s] (pDir tk s) := by
  intro k ps f j B hk hP hB
  obtain ⟨n, rfl⟩ := suc1 (m := k) (by omega)
  obtain ⟨ht, hT, hps, ha, ho, hfr, hS⟩ := id hP
  have key : ∀ (a : Nat) (LV : AL) (v : Int32), ps.1 ≤ a → a ≤ Tn tk → 0 ≤ v ∧ v ≤ 20 → (∀ A : AS, (aIf (bCmp .eq (aL 1) (aK 20)) (aK (-1)) (aIf (bCmp .eq (aL 1) (aK 16)) (aBin oMul (aK 2) (aL 2)) (aBin oAdd (aBin oMul (aK 2) (aL 2)) (aK 1)))) LV A = some (some (.int (v - 1)), A)) → CTm false (fun _ : Unit => Term.int 0) tk f j B (fin false false (run [zSeq (zDo LN (zDiB n) (bZ .ne (aCall (aM n) 20 []))) zRet0] nk LV (stM (a, ps.2) f j))) (if nmB tk a = true then pDirs tk v LF (a, ps.2) else pflt 1 (a, ps.2)) := by
    intro a LV v q1 q2 hv h2
    rw [run_seq, run_rn]
    exact m_dirs rfl (by omega) hv h2 LN LF (a, ps.2) (by decide) (hP.at (W := false) q1 q2 (jfm.rf j) (by omega)) (by dsimp only; omega)
  have i1 : ∀ x : Int32, 1 + x + 0 - 1 = x := fun x => by rw [Int32.add_zero, Int32.add_comm, Int32.add_sub_cancel]
  have i2 : ∀ x : Int32, 1 + x + 1 - 1 = x + 1 := fun x => by rw [Int32.add_sub_cancel, Int32.add_comm]
  have hval : ∀ (LV : AL) (d : Int32), LV 1 = .int s → LV 2 = .int d → ∀ A : AS, (aIf (bCmp .eq (aL 1) (aK 20)) (aK (-1)) (aIf (bCmp .eq (aL 1) (aK 16)) (aBin oMul (aK 2) (aL 2)) (aBin oAdd (aBin oMul (aK 2) (aL 2)) (aK 1)))) LV A = some (some (.int ((if s = 20 then 0 else 1 + 2 * d + (if s = 17 then 1 else 0)) - 1)), A) := by
    intro LV d l1 l2 A
    rcases hs with rfl | rfl | rfl
    · rw [if_neg (show ¬ (16 : Int32) = 20 by decide), if_neg (show ¬ (16 : Int32) = 17 by decide), i1]
      simp only [d10, eq_self, decide_true, decide_false, ti_b, b2i_t, b2i_f, aK, aL, aF, aSz, aBin, aDiv, aB, aAt, aNd, aArgs, aCall, aIf, bCmp, bZ, bAnd, bOr, bNot, bTT, bIf, ab_ok, ab_no, ab_none, ab_ab, ab_ite, aok_ok, aok_none, og_ok, og_none, vbin_i, vb8_i, vput_i, vI_i, cmp_i, hold_eq, hold_ne, hold_lt, hold_ge, hold_gt, hold_le, b2i_0, ss_b, ss_ite, oAdd, oSub, oMul, Option.bind_some, A0of, va_up, List.length_nil, List.length_cons, List.getD_cons_zero, List.getD_cons_succ, List.getD_nil, if_true, if_false, Bool.not_not, Bool.not_true, Bool.not_false, Bool.false_eq_true, reduceIte, Nat.reduceSub, Nat.reduceAdd, Nat.reduceEqDiff, l1, l2, show decide ((16 : Int32) = 20) = false from by decide]
    · rw [if_neg (show ¬ (17 : Int32) = 20 by decide), if_pos rfl, i2]
      simp only [d10, eq_self, decide_true, decide_false, ti_b, b2i_t, b2i_f, aK, aL, aF, aSz, aBin, aDiv, aB, aAt, aNd, aArgs, aCall, aIf, bCmp, bZ, bAnd, bOr, bNot, bTT, bIf, ab_ok, ab_no, ab_none, ab_ab, ab_ite, aok_ok, aok_none, og_ok, og_none, vbin_i, vb8_i, vput_i, vI_i, cmp_i, hold_eq, hold_ne, hold_lt, hold_ge, hold_gt, hold_le, b2i_0, ss_b, ss_ite, oAdd, oSub, oMul, Option.bind_some, A0of, va_up, List.length_nil, List.length_cons, List.getD_cons_zero, List.getD_cons_succ, List.getD_nil, if_true, if_false, Bool.not_not, Bool.not_true, Bool.not_false, Bool.false_eq_true, reduceIte, Nat.reduceSub, Nat.reduceAdd, Nat.reduceEqDiff, l1, l2, show decide ((17 : Int32) = 20) = false from by decide, show decide ((17 : Int32) = 16) = false from by decide]
    · rw [if_pos rfl]
      simp only [d10, eq_self, decide_true, decide_false, ti_b, b2i_t, b2i_f, aK, aL, aF, aSz, aBin, aDiv, aB, aAt, aNd, aArgs, aCall, aIf, bCmp, bZ, bAnd, bOr, bNot, bTT, bIf, ab_ok, ab_no, ab_none, ab_ab, ab_ite, aok_ok, aok_none, og_ok, og_none, vbin_i, vb8_i, vput_i, vI_i, cmp_i, hold_eq, hold_ne, hold_lt, hold_ge, hold_gt, hold_le, b2i_0, ss_b, ss_ite, oAdd, oSub, oMul, Option.bind_some, A0of, va_up, List.length_nil, List.length_cons, List.getD_cons_zero, List.getD_cons_succ, List.getD_nil, if_true, if_false, Bool.not_not, Bool.not_true, Bool.not_false, Bool.false_eq_true, reduceIte, Nat.reduceSub, Nat.reduceAdd, Nat.reduceEqDiff, l1, l2]
      rfl
  have e17 : (if s = 17 then (1 : Int32) else 0) = b2i (decide (s = 17)) := by by_cases h : s = 17 <;> simp [h, b2i]
  unfold pDir
  rw [eM_changeFixities, zM_changeFixities, amth_run, if_pos (show [Term.int s].length = 1 from rfl), run_seq, run_set, aK_e, kS_ok, run_seq, run_if]
  have edg : (bAnd (bAnd (bAnd (bCmp .ne (aL 1) (aK 20)) (bCmp .eq (aCall (aM n) 8 []) (aK 6))) (bZ .ge (aAt 2 (aF 13)))) (bCmp .lt (aAt 2 (aF 13)) (aK 10))) (va_up (A0of true [.int s]) 2 (.int 0)) (stM ps f j) = some (some (!decide (s = 20) && dgB tk ps.1), stM ps f j) := by
    have e20 : bCmp .ne (aL 1) (aK 20) (va_up (A0of true [.int s]) 2 (.int 0)) (stM ps f j) = some (some (!decide (s = 20)), stM ps f j) := bNe_e (by rw [aL_e]; rfl)
    have e6 := bAnd_e e20 (mK (LV := va_up (A0of true [.int s]) 2 (.int 0)) (ps := ps) (f := f) n (by omega) ht hT ha 6)
    unfold dgB
    by_cases h6 : kAt tk ps.1 = 6
    · have hlt : ps.1 < Tn tk := k_lt (by rw [h6]; decide)
      have hv := mAt2 (LV := va_up (A0of true [.int s]) 2 (.int 0)) (f := f) ht hT hlt mF13
      have eg : bZ .ge (aAt 2 (aF 13)) (va_up (A0of true [.int s]) 2 (.int 0)) (stM ps f j) = some (some (decide (0 ≤ nAt tk ps.1)), stM ps f j) := by
        unfold bZ
        rw [hv, ab_ok, cmp_i, hold_ge]
        rfl
      have el : bCmp .lt (aAt 2 (aF 13)) (aK 10) (va_up (A0of true [.int s]) 2 (.int 0)) (stM ps f j) = some (some (decide (nAt tk ps.1 < 10)), stM ps f j) := by
        unfold bCmp
        rw [hv, ab_ok, aK_e, ab_ok, cmp_i, hold_lt]
        rfl
      rw [bAnd_e (bAnd_e e6 eg) el, Bool.and_assoc, Bool.and_assoc, Bool.and_assoc]
    · rw [decide_eq_false h6, Bool.and_false] at e6
      unfold bAnd at e6 ⊢
      rw [e6, ab_ok, if_neg (by decide), ab_ok, if_neg (by decide), decide_eq_false h6, Bool.false_and, Bool.false_and, Bool.and_false]
  rw [edg]
  dsimp only
  cases hd : (!decide (s = 20) && dgB tk ps.1) with
  | true =>
    rw [Bool.and_eq_true] at hd
    have h20 : ¬ s = 20 := by simpa using hd.1
    have hdg := hd.2
    have h6 : kAt tk ps.1 = 6 ∧ 0 ≤ nAt tk ps.1 ∧ nAt tk ps.1 < 10 := by
      unfold dgB at hdg
      simp only [Bool.and_eq_true, decide_eq_true_eq] at hdg
      exact ⟨hdg.1.1, hdg.1.2, hdg.2⟩
    have hlt : ps.1 < Tn tk := k_lt (by rw [h6.1]; decide)
    rw [kI_t, run_seq, run_set, mAt2 ht hT hlt mF13, kS_ok, run_opF, aK_e, kOF_ok, sM_f13, show oAdd (nI ps.1) 1 = nI (ps.1 + 1) from nI_1 _, sM_p13, if_pos rfl, if_pos hdg]
    refine key (ps.1 + 1) _ _ (Nat.le_succ _) hlt ?_ (hval _ (nAt tk ps.1) rfl rfl)
    rw [if_neg h20, e17]
    exact dir_rg h6.2.1 h6.2.2 _
  | false =>
    rw [kI_f, run_skip, if_neg (show ¬ false = true by decide)]
    have e0 : (if s = 20 then (0 : Int32) else 1 + (if dgB tk ps.1 = true then 2 * nAt tk ps.1 else 0) + (if s = 17 then 1 else 0)) = (if s = 20 then 0 else 1 + 2 * 0 + (if s = 17 then 1 else 0)) := by
      by_cases h20 : s = 20
      · rw [if_pos h20, if_pos h20]
      · rw [decide_eq_false h20, Bool.not_false, Bool.true_and] at hd
        rw [if_neg h20, if_neg h20, hd, if_neg (by decide)]
        rfl
    rw [e0]
    refine key ps.1 _ _ (Nat.le_refl _) ha ?_ (hval _ 0 rfl rfl)
    rcases hs with rfl | rfl | rfl <;> decide
end MFX
