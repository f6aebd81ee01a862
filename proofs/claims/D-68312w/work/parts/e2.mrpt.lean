/-! M: record patterns -/
section MRP
variable {α β : Type} {W : Bool} {em : α → V} {em2 : β → V} {tk : TK} {f f1 f' fo : FM} {j j1 j' j0 : AS} {B B1 : Nat} {r : Option (Option V × AS)} {ps ps' : PS} {m n k k' : Nat} {LV : AL}
theorem m_fps {ty pat : PA TR} {c o : Nat} {base : List V} {g : Nat × List V} {w1 : V} (hpg : PGr tk pat) (hpt : CoP W tk c 30 18 [] pat) (htg : PGr tk ty) (hty : CoM W tv tk c 30 35 [] ty) (hn : max c 5 + 1 ≤ n) (N : Nat) :
    ∀ (M : Nat) (items : List (Int32 × TR)) (ps : PS) (j : AS) (LV : AL) (K B0 C0 : KT) (B1 : Nat) (F : Bool × List (Int32 × TR) → PA α), M ≤ N → PRM tk ps ((o, base ++ fvs items), g) j (n + 1) → jfm W j0 j → FldR items → j.nn + 100 * (Tn tk - ps.1) + 50 * items.length ≤ B1 → B1 ≤ 29000 → LV 1 = w1 → LV 2 = .int (nI (o + base.length)) → LV 3 = .int 1 →
    (∀ b items' ps' j' LV', PG tk ps ps' → jfm W j0 j' → FldR items' → j'.nn + 100 * (Tn tk - ps'.1) + 50 * items'.length ≤ B1 → fSm ((o, base ++ fvs items'), g) + j'.nn + 8 * (n + 1) + 100 * (Tn tk - ps'.1) ≤ 29000 → LV' 1 = w1 → LV' 2 = .int (nI (o + base.length)) → LV' 4 = .int (b2i b) → CTm W em tk fo j0 B (K LV' (stM ps' ((o, base ++ fvs items'), g) j')) (F (b, srt items') ps')) →
    (∀ row ps' j' LV', ps'.1 ≤ Tn tk → TKM tk j' → jfm W j0 j' → sg tk ps'.1 4 = true → CTm W em tk fo j0 B (K LV' (stM ps' ((o, row), g) j')) (pflt 1 ps')) →
    CTm W em tk fo j0 B (rn (zWh (N + 1) (bZ .ne (aL 3)) (zSeq (zSet 4 (aCall (aM n) 9 [(aK 42)])) (zSeq (zIf (bNot (bZ .ne (aL 4))) (zAdd 17 (aCall (aM n) 29 [(aL 2)])) zSkip) (zSet 3 (aIf (bAnd (bNot (bZ .ne (aL 4))) (bZ .ne (aCall (aM n) 9 [(aK 39)]))) (aK 1) (aK 0))))) zSkip LV (stM ps ((o, base ++ fvs items), g) j)) K B0 C0) (pb (pFps tk ty pat M (srt items)) F ps) := by
  induction N with
  | zero =>
    intro M items ps j LV K B0 C0 B1 F hM
    have : M = 0 := by omega
    subst this
    intros
    exact trivial
  | succ N ih =>
    intro M items ps j LV K B0 C0 B1 F hM hP hj hR hB hB9 l1 l2 l3 hK hb
    cases M with
    | zero => exact trivial
    | succ M =>
      obtain ⟨ht, hT, hps, ha, ho, hfr, hS⟩ := id hP
      have hA : ALM = 30000 := rfl
      have hil : fSm ((o, base ++ fvs items), g) = o + (base.length + items.length) + g.1 + g.2.length := by simp [fSm]
      have e3 : ∀ A, bZ .ne (aL 3) LV A = some (some true, A) := by
        intro A
        simp only [d10, eq_self, decide_true, decide_false, ti_b, b2i_t, b2i_f, aK, aL, aF, aSz, aBin, aDiv, aB, aAt, aNd, aArgs, aCall, aIf, bCmp, bZ, bAnd, bOr, bNot, bTT, bIf, ab_ok, ab_no, ab_none, ab_ab, ab_ite, aok_ok, aok_none, og_ok, og_none, vbin_i, vb8_i, vput_i, vI_i, cmp_i, hold_eq, hold_ne, hold_lt, hold_ge, hold_gt, hold_le, b2i_0, ss_b, ss_ite, oAdd, oSub, oMul, Option.bind_some, A0of, va_up, List.length_nil, List.length_cons, List.getD_cons_zero, List.getD_cons_succ, List.getD_nil, if_true, if_false, Bool.not_not, Bool.not_true, Bool.not_false, Bool.false_eq_true, reduceIte, Nat.reduceSub, Nat.reduceAdd, Nat.reduceEqDiff, l3]
      rw [rn_wh, e3, ab_ok, if_pos rfl, rn_seq, rn_set, aCall_1, aK_e, ab_ok, m_eat (by omega) ht hT ha, ab_ok]
      cases h42 : sg tk ps.1 42 with
      | true =>
        have hlt : ps.1 < Tn tk := sg_lt h42
        have e4 : ∀ A, bNot (bZ .ne (aL 4)) (va_up LV 4 (.int (b2i true))) A = some (some false, A) := fun A => rfl
        have e5 : ∀ A, (bAnd (bNot (bZ .ne (aL 4))) (bZ .ne (aCall (aM n) 9 [(aK 39)]))) (va_up LV 4 (.int (b2i true))) A = some (some false, A) := by
          intro A
          unfold bAnd
          rw [e4]
          rfl
        have e6 : ∀ A, bZ .ne (aL 3) (va_up (va_up LV 4 (.int (b2i true))) 3 (.int (b2i false))) A = some (some false, A) := fun A => rfl
        rw [if_pos rfl, rn_seq, rn_if, e4, ab_ok, if_neg (by decide), rn_skip, rn_set, aIf01 (e5 _), ab_ok, rn_skip, rn_wh, e6, ab_ok, if_neg (by decide), pb_val (v := (true, srt items)) (ps' := (ps.1 + 1, ps.2)) (by simp only [pFps, h42, if_true])]
        exact hK true items (ps.1 + 1, ps.2) j _ (PG.one hps hlt) hj hR (by dsimp only; omega) (by dsimp only; omega) (by simpa [va_up] using l1) (by simpa [va_up] using l2) rfl
      | false =>
        have e4 : ∀ A, bNot (bZ .ne (aL 4)) (va_up LV 4 (.int (b2i false))) A = some (some true, A) := fun A => rfl
        rw [if_neg (by decide), rn_seq, rn_if, e4, ab_ok, if_pos rfl, rn_add, aCall_1, aL_e, ab_ok, show va_up LV 4 (.int (b2i false)) 2 = LV 2 from rfl, l2]
        rw [show pb (pFps tk ty pat (M + 1) (srt items)) F ps = (if labB tk ps.1 = true then (if items.any (fun q => decide (q.1 = labV tk ps.1)) = true then pflt 2 ps else pb (grQ tk (pFpat tk ty pat (labV tk ps.1) ps.1)) (fun v => pb (fun ps' => if sg tk ps'.1 39 = true then pFps tk ty pat M (insF (labV tk ps.1) (34, .int (labV tk ps.1), tv v, no, nI ps.1) (srt items)) (ps'.1 + 1, ps'.2) else some (.inl ((false, insF (labV tk ps.1) (34, .int (labV tk ps.1), tv v, no, nI ps.1) (srt items)), ps'))) F) (ps.1 + 1, ps.2)) else pflt 1 ps) by
          cases hl : labB tk ps.1 with
          | false => rw [pb_flt (k := 1) (by simp only [pFps, h42, hl, A0of, va_up, List.length_nil, List.length_cons, List.getD_cons_zero, List.getD_cons_succ, List.getD_nil, if_true, if_false, Bool.not_not, Bool.not_true, Bool.not_false, Bool.false_eq_true, reduceIte, Nat.reduceSub, Nat.reduceAdd, Nat.reduceEqDiff]), if_neg (by decide)]
          | true =>
            rw [if_pos rfl]
            cases hy : items.any (fun q => decide (q.1 = labV tk ps.1)) with
            | true => rw [pb_flt (k := 2) (by simp only [pFps, h42, hl, srt_any, hy, A0of, va_up, List.length_nil, List.length_cons, List.getD_cons_zero, List.getD_cons_succ, List.getD_nil, if_true, if_false, Bool.not_not, Bool.not_true, Bool.not_false, Bool.false_eq_true, reduceIte, Nat.reduceSub, Nat.reduceAdd, Nat.reduceEqDiff]), if_pos rfl]
            | false =>
              rw [if_neg (by decide), pb_at (p' := pb (grQ tk (pFpat tk ty pat (labV tk ps.1) ps.1)) (fun v ps' => if sg tk ps'.1 39 = true then pFps tk ty pat M (insF (labV tk ps.1) (34, .int (labV tk ps.1), tv v, no, nI ps.1) (srt items)) (ps'.1 + 1, ps'.2) else some (.inl ((false, insF (labV tk ps.1) (34, .int (labV tk ps.1), tv v, no, nI ps.1) (srt items)), ps')))) (ps' := (ps.1 + 1, ps.2)) (by simp only [pFps, h42, hl, srt_any, hy, A0of, va_up, List.length_nil, List.length_cons, List.getD_cons_zero, List.getD_cons_succ, List.getD_nil, if_true, if_false, Bool.not_not, Bool.not_true, Bool.not_false, Bool.false_eq_true, reduceIte, Nat.reduceSub, Nat.reduceAdd, Nat.reduceEqDiff]), pb_pb]]
        have hlen : o + (base ++ fvs items).length < ALM := by simp [fvs]; omega
        refine m_field hpg hpt htg hty hn hP hj hR (fun hl v a j3 q1 q2 hj3 hB3 => ?_) (fun hl v ps3 j3 c1 c2 c3 c4 c5 => ?_)
        · rw [ma17 hlen, og_ok]
          generalize hq : ((labV tk ps.1, (34, .int (labV tk ps.1), tv v, no, nI ps.1)) : Int32 × TR) = q
          have k1 : q.1 = labV tk ps.1 := by rw [← hq]
          have k2 : q.2 = (34, .int (labV tk ps.1), tv v, no, nI ps.1) := by rw [← hq]
          have es : insF (labV tk ps.1) (34, .int (labV tk ps.1), tv v, no, nI ps.1) (srt items) = srt (items ++ [q]) := by rw [srt_snoc, k1, k2]
          have ep : base ++ fvs items ++ [tv (34, .int (labV tk ps.1), tv v, no, nI ps.1)] = base ++ fvs (items ++ [q]) := by rw [← k2]; simp [fvs]
          have hR' : FldR (items ++ [q]) := by
            refine ⟨fun x hx => ?_, fun x hx => ?_⟩
            · rcases List.mem_append.mp hx with hx | hx
              · exact hR.1 x hx
              · rw [List.mem_singleton.mp hx, k1, k2]
                exact ⟨rfl, by show ¬ ((34 : Int32) = 11 ∨ (34 : Int32) = 32); decide⟩
            · rcases List.mem_append.mp hx with hx | hx
              · exact hR.2 x hx
              · rw [List.mem_singleton.mp hx, k1]
                exact lab_R ht hl
          have hl' : fSm ((o, base ++ fvs (items ++ [q])), g) = o + (base.length + (items.length + 1)) + g.1 + g.2.length := by simp [fSm]
          have gg : PG tk ps (a, ps.2) := ⟨q1, q2, rfl, by dsimp only; omega, hps⟩
          have hP4 : PRM tk (a, ps.2) ((o, base ++ fvs (items ++ [q])), g) j3 (n + 1) := hP.nx gg (hj.l hj3) (by rw [hl']; dsimp only; omega)
          have e5 : ∀ L : AL, L 4 = .int (b2i false) → (bAnd (bNot (bZ .ne (aL 4))) (bZ .ne (aCall (aM n) 9 [(aK 39)]))) L (stM (a, ps.2) ((o, base ++ fvs (items ++ [q])), g) j3) = some (some (sg tk a 39), stM (if sg tk a 39 = true then (a + 1, ps.2) else (a, ps.2)) ((o, base ++ fvs (items ++ [q])), g) j3) := by
            intro L h
            unfold bAnd
            rw [bNot_e (bZn_e (x := false) (by rw [aL_e, h])), ab_ok, Bool.not_false, if_pos rfl, m_eatB (by omega) hP4]
          rw [es, ep, rn_set, aIf01 (e5 _ rfl), ab_ok, rn_skip]
          cases hc : sg tk a 39 with
          | true =>
            have hlt3 : a < Tn tk := sg_lt hc
            rw [if_pos rfl, pb_at (p' := pFps tk ty pat M (srt (items ++ [q]))) (ps' := (a + 1, ps.2)) (by simp only [hc, if_true])]
            refine ih M (items ++ [q]) (a + 1, ps.2) j3 _ K B0 C0 B1 F (by omega) (hP4.one hlt3) hj3 hR' (by simp; omega) hB9 (by simpa [va_up] using l1) (by simpa [va_up] using l2) rfl (fun b items' ps' j' LV' r1 r2 r3 r4 r5 r6 r7 r8 => ?_) hb
            exact hK b items' ps' j' LV' (PG.trans (PGe.trans gg.e (PG.one (ps := (a, ps.2)) hps hlt3).e) r1) r2 r3 r4 r5 r6 r7 r8
          | false =>
            have e6 : ∀ A, bZ .ne (aL 3) (va_up (va_up LV 4 (.int (b2i false))) 3 (.int (b2i false))) A = some (some false, A) := fun A => rfl
            rw [if_neg (by decide), pb_val (v := (false, srt (items ++ [q]))) (ps' := (a, ps.2)) (by simp only [hc, Bool.false_eq_true, if_false]), rn_wh, e6, ab_ok, if_neg (by decide)]
            exact hK false (items ++ [q]) (a, ps.2) j3 _ gg hj3 hR' (by simp; omega) (by rw [hl']; dsimp only; omega) (by simpa [va_up] using l1) (by simpa [va_up] using l2) rfl
        · have c6 : sg tk ps3.1 39 = false := sg_ne c4 (by decide)
          have e5 : ∀ (L : AL) (fr : FM), L 4 = .int (b2i false) → (bAnd (bNot (bZ .ne (aL 4))) (bZ .ne (aCall (aM n) 9 [(aK 39)]))) L (stM ps3 fr j3) = some (some false, stM ps3 fr j3) := by
            intro L fr h
            unfold bAnd
            rw [bNot_e (bZn_e (x := false) (by rw [aL_e, h])), ab_ok, Bool.not_false, if_pos rfl]
            have em := m_eat (m := n) (f := fr) (by omega) ht c2 c1 39
            rw [c6, if_neg (by decide)] at em
            exact bZn_e (x := false) (by rw [aCall_1, aK_e, ab_ok]; exact em)
          have e6 : ∀ A, bZ .ne (aL 3) (va_up (va_up LV 4 (.int (b2i false))) 3 (.int (b2i false))) A = some (some false, A) := fun A => rfl
          rw [ma17 hlen, og_ok, rn_set, aIf01 (e5 _ _ rfl), ab_ok, rn_skip, rn_wh, e6, ab_ok, if_neg (by decide)]
          exact hb _ ps3 j3 _ c1 c2 c3 c4
theorem m_recordPattern {ty pat : PA TR} {c : Nat} (hpg : PGr tk pat) (hpt : CoP W tk c 30 18 [] pat) (htg : PGr tk ty) (hty : CoM W tv tk c 30 35 [] ty) : CoM W tv tk (max c 5 + 2) 60 28 [] (pRecP tk ty pat) := by
  intro k ps f j B hk hP hB
  obtain ⟨n, rfl⟩ := suc1 (m := k) (by omega)
  obtain ⟨⟨o, base⟩, g⟩ := f
  obtain ⟨ht, hT, hps, ha, ho, hfr, hS⟩ := id hP
  have hA : ALM = 30000 := rfl
  unfold pRecP
  rw [eM_recordPattern, zM_recordPattern, amth_run, List.length_nil, if_pos rfl, fin_ok, run_seq, run_set, aF_e, kS_ok, sM_f13, run_seq, run_ex, aCall_nil, kE_ab]
  refine ctm_enter (by omega) hP (jfm.rf j) fun hop => ?_
  refine ctm_adv fun hlt => ?_
  have hlt : ps.1 < Tn tk := hlt
  have hP1 := hP.op hop hlt
  obtain ⟨_, _, _, ha1, _, _, hS1⟩ := id hP1
  rw [run_seq, run_opF, aK_e, kOF_ok, sM_f13, show oAdd (nI ps.1) 1 = nI (ps.1 + 1) from nI_1 _, sM_p13, run_seq, run_set, aSz_e, kS_ok, sM_R17, sM_o17, run_seq, run_set, aIf01 (bNot_e (mS n (by omega) ht hT ha1 38)), kS_ok, run_seq, run_set, aK_e, kS_ok, run_seq, run_rn]
  have fin : ∀ (b : Bool) (items : List (Int32 × TR)) (ps2 : PS) (j2 : AS) (L : AL), PGe tk (ps.1 + 1, ps.2.1 + 1, ps.2.2) ps2 → jfm W j j2 → FldR items → j2.nn + 100 * (Tn tk - ps2.1) + 50 * items.length ≤ j.nn + 100 * (Tn tk - (ps.1 + 1)) → fSm ((o, base ++ fvs items), g) + j2.nn + 8 * (n + 1) + 100 * (Tn tk - ps2.1) ≤ 29000 → L 1 = .int (nI ps.1) → L 2 = .int (nI (o + base.length)) → L 4 = .int (b2i b) →
      CTm W tv tk ((o, base), g) j B (run [(zSeq (zEx (aCall (aM n) 33 [(aK 38)])) (zSeq (zOpF oSub 14 (aK 1)) (zSeq (zEx (aCall (aM n) 40 [(aL 2)])) (zRet (aCall (aM n) 16 [(aK 33), (aCall (aM n) 42 [(aL 2)]), (aIf (bZ .ne (aL 4)) (aK 1) (aK 0)), (aK (-1)), (aL 1)])))))] nk L (stM ps2 ((o, base ++ fvs items), g) j2)) (pNeed tk 38 (pLeave (pret (33, tLi ((srt items).map (·.2)), .int (b2i b), no, nI ps.1))) ps2) := by
    intro b items ps2 j2 L g2 hj2 hR hB2 hS2 l1 l2 l4
    have hP2 : PRM tk ps2 ((o, base ++ fvs items), g) j2 (n + 1) := hP1.nxe g2 hj2 hS2
    rw [run_seq, run_ex, aCall_1, aK_e, ab_ok, kE_ab]
    refine ctm_need (by omega) hP2 hj2 fun hlt2 => ?_
    have o2 := g2.2.2.1
    dsimp only at o2
    have e14 : nI ps2.2.1 - 1 = nI (ps2.2.1 - 1) := nI_sub1 (by omega)
    have hil : fSm ((o, base ++ fvs items), g) = o + (base.length + items.length) + g.1 + g.2.length := by simp [fSm]
    have hsl := srt_len items
    have e40 := m_sort (m := n) (ps := (ps2.1 + 1, ps2.2.1 - 1, ps2.2.2)) (j := j2) (o := o) (base := base) (items := items) (g := g) (by omega) hR (by omega) (by omega)
    have efv : base ++ fvs (srt items) = base ++ ((srt items).map (·.2)).map tv := by simp [fvs]
    have e42 := m_list (m := n) (ps := (ps2.1 + 1, ps2.2.1 - 1, ps2.2.2)) (j := j2) (o := o) (base := base) (items := (srt items).map (·.2)) (g := g) (by omega) (by simp; omega) (by simp; omega) (by simp; omega)
    rw [← efv] at e42
    have okl := okLi ((srt items).map (·.2))
    have emk := m_make (m := n) (ps := (ps2.1 + 1, ps2.2.1 - 1, ps2.2.2)) (f := ((o, base), g)) (j := mkN j2 ((srt items).map (·.2)).length) (k := 33) (p := nI ps.1) (a := tLi ((srt items).map (·.2))) (b := .int (b2i b)) (c := .int (-1)) (by omega) (by rw [mkN_nn]; simp; omega) (by decide) okl rfl rfl
    have e4 : ∀ A : AS, aIf (bZ .ne (aL 4)) (aK 1) (aK 0) L A = some (some (.int (b2i b)), A) := fun A => aIf01 (bZn_e (by rw [aL_e, l4]))
    rw [run_seq, run_opF, aK_e, kOF_ok, sM_f14, show oSub (nI ps2.2.1) 1 = nI (ps2.2.1 - 1) from e14, sM_p14, run_seq, run_ex, aCall_1, aL_e, l2, ab_ok, e40, kE_ok, run_ret]
    have e5 : aCall (aM n) 16 [(aK 33), (aCall (aM n) 42 [(aL 2)]), (aIf (bZ .ne (aL 4)) (aK 1) (aK 0)), (aK (-1)), (aL 1)] L (stM (ps2.1 + 1, ps2.2.1 - 1, ps2.2.2) ((o, base ++ fvs (srt items)), g) j2) = some (some (tv (33, tLi ((srt items).map (·.2)), .int (b2i b), no, nI ps.1)), stM (ps2.1 + 1, ps2.2.1 - 1, ps2.2.2) ((o, base), g) (mkN (mkN j2 ((srt items).map (·.2)).length) 1)) := by
      unfold aCall
      simp only [aArgs, e4, aCall_1, aK_e, aL_e, ab_ok, ab_ab, l1, l2, e42, emk]
    rw [e5]
    refine ctm_ret (v := ((33, tLi ((srt items).map (·.2)), .int (b2i b), no, nI ps.1) : TR)) (ps := (ps2.1 + 1, ps2.2.1 - 1, ps2.2.2)) ((hj2.mk _).mk _) ?_
    simp only [mkN_nn, List.length_map]
    omega
  cases h38 : sg tk (ps.1 + 1) 38 with
  | true =>
    have e3 : ∀ A, bZ .ne (aL 3) (va_up (va_up (va_up (va_up (A0of true []) 1 (.int (nI ps.1))) 2 (.int (nI (o + base.length)))) 3 (.int (b2i !true))) 4 (.int 0)) A = some (some false, A) := fun A => rfl
    rw [pb_val (v := (false, [])) (ps' := (ps.1 + 1, ps.2.1 + 1, ps.2.2)) (by simp only [h38, if_true]), show LN = 99999 + 1 from rfl, rn_wh, e3, ab_ok, if_neg (by decide)]
    have := fin false [] (ps.1 + 1, ps.2.1 + 1, ps.2.2) j (va_up (va_up (va_up (va_up (A0of true []) 1 (.int (nI ps.1))) 2 (.int (nI (o + base.length)))) 3 (.int (b2i !true))) 4 (.int 0)) (PGe.rf hps hlt) (jfm.rf j) ⟨fun _ h => absurd h (by simp), fun _ h => absurd h (by simp)⟩ (by simp) (by simpa using hS1) rfl rfl rfl
    simpa [fvs, srt] using this
  | false =>
    rw [pb_at (p' := pFps tk ty pat LF (srt [])) (ps' := (ps.1 + 1, ps.2.1 + 1, ps.2.2)) (by simp only [h38, Bool.false_eq_true, if_false]; rfl)]
    have hP1' : PRM tk (ps.1 + 1, ps.2.1 + 1, ps.2.2) ((o, base ++ fvs []), g) j (n + 1) := by simpa [fvs] using hP1
    have := m_fps (em := tv) (fo := ((o, base), g)) (j0 := j) (B := B) (w1 := .int (nI ps.1)) hpg hpt htg hty (by omega) 99999 LF [] (ps.1 + 1, ps.2.1 + 1, ps.2.2) j (va_up (va_up (va_up (va_up (A0of true []) 1 (.int (nI ps.1))) 2 (.int (nI (o + base.length)))) 3 (.int (b2i !false))) 4 (.int 0)) (run [(zSeq (zEx (aCall (aM n) 33 [(aK 38)])) (zSeq (zOpF oSub 14 (aK 1)) (zSeq (zEx (aCall (aM n) 40 [(aL 2)])) (zRet (aCall (aM n) 16 [(aK 33), (aCall (aM n) 42 [(aL 2)]), (aIf (bZ .ne (aL 4)) (aK 1) (aK 0)), (aK (-1)), (aL 1)])))))] nk) nk nk (j.nn + 100 * (Tn tk - (ps.1 + 1))) (fun l => pNeed tk 38 (pLeave (pret (33, tLi (l.2.map (·.2)), .int (b2i l.1), no, nI ps.1)))) (by decide) hP1' (jfm.rf j) ⟨fun _ h => absurd h (by simp), fun _ h => absurd h (by simp)⟩ (by simp) (by dsimp only at hS1; omega) rfl rfl rfl (fun b items ps' j' LV' r1 r2 r3 r4 r5 r6 r7 r8 => fin b items ps' j' LV' r1.e r2 r3 r4 r5 r6 r7 r8) (fun row ps' j' LV' c1 c2 c3 c4 => ?_)
    · simpa [fvs] using this
    · rw [run_seq, run_ex, aCall_1, aK_e, ab_ok, m_needF (by omega) ht c2 c4 (by decide), kE_no]
      exact ctm_flt c3
end MRP
