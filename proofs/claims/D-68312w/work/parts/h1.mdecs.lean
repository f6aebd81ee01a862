/-! M: declarations; a program -/
abbrev zDsC (n : Nat) : BX := (bIf (bZ .ne (aL 1)) (bCmp .lt (aF 13) (aF 3)) (bOr (bZ .ne (aCall (aM n) 6 [(aK 41)])) (bZ .ne (aCall (aM n) 7 []))))
abbrev zDsD (n : Nat) : ZX := (zSeq (zSet 4 (aK 0)) (zSeq (zSet 6 (aAt 1 (aF 13))) (zSeq (zOpF oAdd 13 (aK 1)) (zSeq (zSet 7 (zDcX n)) (zIf (bZ .ge (aL 7)) (zAdd 17 (aL 7)) zSkip)))))
abbrev zDsE (n : Nat) : ZX := (zSeq (zIf (bNot (bZ .ne (aL 4))) (zEx (aCall (aM n) 10 [])) zSkip) (zSeq (zSet 6 (aCall (aM n) 12 [])) (zSeq (zIf (bAnd (bCmp .lt (aF 13) (aF 3)) (bNot (bZ .ne (aCall (aM n) 6 [(aK 41)])))) (zEx (aCall (aM n) 10 [])) zSkip) (zSeq (zSet 7 (aCall (aM n) 16 [(aK 71), (aCall (aM n) 34 [(aK 5), (aL 5)]), (aL 6), (aK 0), (aL 5)])) (zSeq (zAdd 17 (aCall (aM n) 16 [(aK 70), (aK (-1)), (aCall (aM n) 46 [(aL 7)]), (aK (-1)), (aL 5)])) (zSet 4 (aK 0)))))))
abbrev zDsB (n : Nat) : ZX := (zSeq (zSet 5 (aF 13)) (zIf (bZ .ne (aCall (aM n) 9 [(aK 41)])) (zSet 4 (aL 1)) (zIf (bNot (bZ .ne (aCall (aM n) 7 []))) (zDsE n) (zDsD n))))
section MDS
variable {α β : Type} {W : Bool} {em : α → V} {em2 : β → V} {tk : TK} {f f1 f' fo : FM} {j1 j' : AS} {B1 a : Nat} {r : Option (Option V × AS)} {ps' : PS} {m n k k' : Nat} {zs : List ZX} {E : PA TR} {c b o : Nat} {gg : Nat × List V} {dec : PA (Option TR)}
theorem m_decStep {j j0 : AS} {ps : PS} {LV : AL} {K B0 C0 : KT} {B : Nat} {row : List V} {F : Option TR → PA α} (hd : DecM tk n dec) (hdg : PGg tk dec) (hb : begD tk ps.1 = true) (hP : PRM tk ps ((o, row), gg) j (n + 1)) (hj : jfm false j0 j) (l5 : LV 5 = .int (nI ps.1))
    (hK : ∀ (t : Option TR) ps' j' LV', PG tk ps ps' → jfm false j0 j' → j'.nn + 100 * (Tn tk - ps'.1) + 20 ≤ j.nn + 100 * (Tn tk - ps.1) → (∀ k, k < 4 → LV' k = LV k) → LV' 4 = .int 0 → CTm false em tk fo j0 B (K LV' (stM ps' ((o, row ++ t.toList.map tv), gg) j')) (F t ps')) :
    CTm false em tk fo j0 B (rn (zDsD n LV (stM ps ((o, row), gg) j)) K B0 C0) (pb dec F ps) := by
  obtain ⟨ht, hT, hps, ha, hop, hfr, hS⟩ := id hP
  have hA : ALM = 30000 := rfl
  have hk1 := (begD_v hb).1
  have hlt : ps.1 < Tn tk := k_lt (by rw [hk1]; decide)
  have hlen : o + row.length < ALM := by simp only [fSm] at hS; omega
  rw [rn_seq, rn_set, aK_e, ab_ok, rn_seq, rn_set, mAt1 ht hT hlt mF13, ab_ok, rn_seq, rn_opF, aK_e, ab_ok, sM_f13, vbin_i, Option.bind_some, vput_i, og_ok, show oAdd (nI ps.1) 1 = nI (ps.1 + 1) from nI_1 _, sM_p13, rn_seq, rn_set]
  refine ctm_bind hj (hd ps ((o, row), gg) j (j.nn + 100 * (Tn tk - ps.1) - 20) _ hb hP (by omega) (by simpa [va_up] using l5) rfl) fun t ps' j' hp h1 h2 => ?_
  have hg := hdg ps t ps' hps hp
  rw [rn_if, bZge_ov (o := t) rfl, ab_ok]
  have hlv : ∀ u v : V, ∀ k, k < 4 → va_up (va_up (va_up LV 4 (.int 0)) 6 u) 7 v k = LV k := fun u v k hk => by rw [va_up_ne _ _ (by omega), va_up_ne _ _ (by omega), va_up_ne _ _ (by omega)]
  have hl5 : ∀ u v : V, va_up (va_up (va_up LV 4 (.int 0)) 6 u) 7 v 4 = .int 0 := fun _ _ => rfl
  cases t with
  | none =>
    rw [Option.isSome_none, if_neg (by decide), rn_skip]
    have := hK none ps' j' (va_up (va_up (va_up LV 4 (.int 0)) 6 (.int (vAt tk ps.1))) 7 (ov none)) hg h1 (by omega) (hlv _ _) (hl5 _ _)
    simpa using this
  | some t =>
    rw [Option.isSome_some, if_pos rfl, rn_add, aL_e, ab_ok, ma17 hlen, og_ok]
    exact hK (some t) ps' j' _ hg h1 (by omega) (hlv _ _) (hl5 _ _)
theorem m_dcs {base : List V} {w2 w3 : V} (hd : DecM tk n dec) (hdg : PGg tk dec) (hn : 5 ≤ n) (N : Nat) :
    ∀ (M : Nat) (don : List TR) (ps : PS) (j j0 : AS) (LV : AL) (K B0 C0 : KT) (B1 B : Nat) (F : List TR → PA α), M ≤ N → PRM tk ps ((o, base ++ don.map tv), gg) j (n + 1) → jfm false j0 j → LV 1 = .int 0 → LV 2 = w2 → LV 3 = w3 → j.nn + 100 * (Tn tk - ps.1) ≤ B1 →
    (∀ ts ps' j' LV', PGe tk ps ps' → jfm false j0 j' → j'.nn + 100 * (Tn tk - ps'.1) + 10 * ts.length ≤ B1 → fSm ((o, base ++ (don ++ ts).map tv), gg) + j'.nn + 8 * (n + 1) + 100 * (Tn tk - ps'.1) ≤ 29000 → LV' 2 = w2 → LV' 3 = w3 → CTm false em tk fo j0 B (K LV' (stM ps' ((o, base ++ (don ++ ts).map tv), gg) j')) (F ts ps')) →
    CTm false em tk fo j0 B (rn (zWh (N + 1) (zDsC n) (zDsB n) zSkip LV (stM ps ((o, base ++ don.map tv), gg) j)) K B0 C0) (pb (pDcs tk dec M) F ps) := by
  induction N with
  | zero =>
    intro M don ps j j0 LV K B0 C0 B1 B F hM
    have : M = 0 := by omega
    subst this
    intros
    exact trivial
  | succ N ih =>
    intro M don ps j j0 LV K B0 C0 B1 B F hM hP hj l1 l2 l3 hB hK
    cases M with
    | zero => exact trivial
    | succ M =>
      obtain ⟨ht, hT, hps, ha, hop, hfr, hS⟩ := id hP
      have ec : zDsC n LV (stM ps ((o, base ++ don.map tv), gg) j) = some (some (sg tk ps.1 41 || begD tk ps.1), stM ps ((o, base ++ don.map tv), gg) j) := by
        show bIf _ _ _ _ _ = _
        unfold bIf
        rw [bZn_e (x := false) (by rw [aL_e, l1]; rfl), ab_ok, if_neg (by decide)]
        exact bOr_e (mS n (by omega) ht hT ha 41) (aCall0_b (m_isDec (by omega) ht hT ha))
      rw [rn_wh, ec, ab_ok]
      cases h41 : sg tk ps.1 41 with
      | true =>
        have hlt : ps.1 < Tn tk := sg_lt h41
        rw [Bool.true_or, if_pos rfl, pb_at (p' := pDcs tk dec M) (ps' := (ps.1 + 1, ps.2)) (by simp only [pDcs, h41, if_true]), rn_seq, rn_set, aF_e, ab_ok, rn_if, m_eatB (by omega) hP, h41, ab_ok, if_pos rfl, if_pos rfl, rn_set, aL_e, ab_ok, rn_skip]
        refine ih M don (ps.1 + 1, ps.2) j j0 _ K B0 C0 B1 B F (by omega) (hP.one hlt) hj (by simpa [va_up] using l1) (by simpa [va_up] using l2) (by simpa [va_up] using l3) (by dsimp only; omega) fun ts ps' j' LV' r1 r2 r3 r4 r5 r6 => ?_
        exact hK ts ps' j' LV' (PGe.trans (PG.one hps hlt).e r1) r2 r3 r4 r5 r6
      | false =>
        rw [Bool.false_or]
        cases hb : begD tk ps.1 with
        | false =>
          rw [if_neg (by decide), pb_val (v := []) (ps' := ps) (by simp only [pDcs, h41, hb, Bool.false_eq_true, if_false])]
          have := hK [] ps j LV (PGe.rf hps ha) hj (by simpa using hB) (by simpa using hS) l2 l3
          simpa using this
        | true =>
          rw [if_pos rfl, pb_at (p' := pb dec (fun o => pb (pDcs tk dec M) fun l => pret (o.toList ++ l))) (ps' := ps) (by simp only [pDcs, h41, hb, Bool.false_eq_true, if_false, if_true]), pb_pb, rn_seq, rn_set, aF_e, ab_ok, sM_f13, rn_if, m_eatB (by omega) hP, h41, ab_ok, if_neg (by decide), if_neg (by decide), rn_if, bNot_e (aCall0_b (m_isDec (by omega) ht hT ha)), hb, ab_ok, if_neg (by decide)]
          refine m_decStep hd hdg hb hP hj rfl fun t ps1 j1 LV1 g1 hj1 hB1 lk _ => ?_
          rw [pb_pb, rn_skip]
          have hl : base ++ don.map tv ++ t.toList.map tv = base ++ (don ++ t.toList).map tv := by simp
          have hl2 : fSm ((o, base ++ (don ++ t.toList).map tv), gg) ≤ fSm ((o, base ++ don.map tv), gg) + 1 := by
            rw [← hl, fSm_push]
            cases t <;> simp
          have hl3 : t.toList.length ≤ 1 := by cases t <;> simp
          rw [hl]
          refine ih M (don ++ t.toList) ps1 j1 j0 LV1 K B0 C0 (B1 - 10 * t.toList.length) B _ (by omega) (hP.nx g1 (hj.l hj1) (by omega)) hj1 ((lk 1 (by decide)).trans l1) ((lk 2 (by decide)).trans l2) ((lk 3 (by decide)).trans l3) (by omega) fun ts ps' j' LV' r1 r2 r3 r4 r5 r6 => ?_
          have := hK (t.toList ++ ts) ps' j' LV' (PGe.trans g1.e r1) r2 (by simp; omega) (by simpa using r4) r5 r6
          simpa [pret_pb] using this
theorem m_decs (hd : ∀ n, c ≤ n → DecM tk n dec) (hdg : PGg tk dec) : CoMD tv tk (max c 5 + 1) 5 [.int 0] (pDs tk dec) := by
  intro k ps f j B hk hP hB
  obtain ⟨n, rfl⟩ := suc1 (m := k) (by omega)
  obtain ⟨⟨o, base⟩, g⟩ := f
  have hA : ALM = 30000 := rfl
  have hil0 : fSm ((o, base), g) = o + base.length + g.1 + g.2.length := rfl
  refine ctm_gD ?_
  rw [eM_decs, zM_decs, amth_run, if_pos (show [Term.int 0].length = 1 from rfl), fin_ok, run_seq, run_set, aF_e, kS_ok, sM_f13, run_seq, run_set, aSz_e, kS_ok, sM_R17, sM_o17, run_seq, run_set, aL_e, kS_ok, run_seq, run_rn]
  have hP' : PRM tk ps ((o, base ++ ([] : List TR).map tv), g) j (n + 1) := by simpa using hP
  have := m_dcs (em := tv) (fo := ((o, base), g)) (base := base) (gg := g) (o := o) (w2 := .int (nI ps.1)) (w3 := .int (nI (o + base.length))) (hd n (by omega)) hdg (by omega) 99999 LF [] ps j j (va_up (va_up (va_up (A0of true [.int 0]) 2 (.int (nI ps.1))) 3 (.int (nI (o + base.length)))) 4 (.int 0)) (run [zRet (aCall (aM n) 16 [(aK 84), (aCall (aM n) 42 [(aL 3)]), (aK (-1)), (aK (-1)), (aL 2)])] nk) nk nk (j.nn + 100 * (Tn tk - ps.1)) B (fun l => pret (84, tLi l, no, no, nI ps.1)) (by decide) hP' (jfm.rf j) rfl rfl rfl (Nat.le_refl _) fun ts ps' j' LV' r1 r3 r4 r5 r6 r7 => ?_
  · simp only [List.map_nil, List.append_nil] at this
    exact this
  · rw [List.nil_append, fSm_push, List.length_map, hil0] at r5
    rw [List.nil_append]
    have el := m_list (m := n) (ps := ps') (j := j') (by omega) (o := o) (base := base) (items := ts) (g := g) (by omega) (by omega) (by omega)
    have emk := m_make (m := n) (ps := ps') (f := ((o, base), g)) (j := mkN j' ts.length) (k := 84) (p := nI ps.1) (a := tLi ts) (b := .int (-1)) (c := .int (-1)) (by omega) (by rw [mkN_nn]; omega) (by decide) (okLi ts) rfl rfl
    rw [run_ret]
    simp only [aCall_5, aCall_1, aK_e, aL_e, ab_ok, r6, r7, el, emk]
    exact ctm_ret (v := (84, tLi ts, no, no, nI ps.1)) ((r3.mk _).mk _) (by simp only [mkN_nn]; omega)
theorem k0_iff (ht : tkOK tk) (i : Nat) : decide (i < Tn tk) = !decide (kAt tk i = 0) := by
  by_cases h : i < Tn tk
  · have := (ht.2.2.2 i h).1
    have hne : ¬ kAt tk i = 0 := fun e => by rw [e] at this; exact absurd this (by decide)
    rw [decide_eq_true h, decide_eq_false hne]
    rfl
  · rw [decide_eq_false h, kAt_out (Nat.not_lt.mp h)]
    rfl
theorem m_prg {base : List V} {w2 w3 : V} (hd : DecM tk n dec) (hdg : PGg tk dec) (hEg : PGr tk E) (hE : CoM false tv tk c 30 12 [] E) (hn : max c 5 ≤ n) (N : Nat) :
    ∀ (M : Nat) (may : Bool) (don : List TR) (ps : PS) (j j0 : AS) (LV : AL) (K B0 C0 : KT) (B1 B : Nat) (F : List TR → PA α), M ≤ N → PRM tk ps ((o, base ++ don.map tv), gg) j (n + 1) → jfm false j0 j → LV 1 = .int 1 → LV 2 = w2 → LV 3 = w3 → (LV 4 = .int (b2i may) ∨ sg tk ps.1 41 = true ∨ kAt tk ps.1 = 0) → j.nn + 100 * (Tn tk - ps.1) ≤ B1 →
    (∀ ts ps' j' LV', PGe tk ps ps' → jfm false j0 j' → j'.nn + 100 * (Tn tk - ps'.1) + 10 * ts.length ≤ B1 → fSm ((o, base ++ (don ++ ts).map tv), gg) + j'.nn + 8 * (n + 1) + 100 * (Tn tk - ps'.1) ≤ 29000 → LV' 2 = w2 → LV' 3 = w3 → CTm false em tk fo j0 B (K LV' (stM ps' ((o, base ++ (don ++ ts).map tv), gg) j')) (F ts ps')) →
    CTm false em tk fo j0 B (rn (zWh (N + 1) (zDsC n) (zDsB n) zSkip LV (stM ps ((o, base ++ don.map tv), gg) j)) K B0 C0) (pb (pPrg tk dec E M may) F ps) := by
  induction N with
  | zero =>
    intro M may don ps j j0 LV K B0 C0 B1 B F hM
    have : M = 0 := by omega
    subst this
    intros
    exact trivial
  | succ N ih =>
    intro M may don ps j j0 LV K B0 C0 B1 B F hM hP hj l1 l2 l3 l4 hB hK
    cases M with
    | zero => exact trivial
    | succ M =>
      obtain ⟨ht, hT, hps, ha, hop, hfr, hS⟩ := id hP
      have hA : ALM = 30000 := rfl
      have h3 := tk_len ht
      have ec : zDsC n LV (stM ps ((o, base ++ don.map tv), gg) j) = some (some (!decide (kAt tk ps.1 = 0)), stM ps ((o, base ++ don.map tv), gg) j) := by
        show bIf _ _ _ _ _ = _
        unfold bIf
        rw [bZn_e (x := true) (by rw [aL_e, l1]; rfl), ab_ok, if_pos rfl, mLt ht hT (by omega) mF13, k0_iff ht]
      rw [rn_wh, ec, ab_ok]
      by_cases hk0 : kAt tk ps.1 = 0
      · rw [decide_eq_true hk0, if_neg (by decide), pb_val (v := []) (ps' := ps) (by simp only [pPrg, hk0, if_true])]
        have := hK [] ps j LV (PGe.rf hps ha) hj (by simpa using hB) (by simpa using hS) l2 l3
        simpa using this
      · rw [decide_eq_false hk0, if_pos (by decide), rn_seq, rn_set, aF_e, ab_ok, sM_f13, rn_if, m_eatB (by omega) hP, ab_ok]
        cases h41 : sg tk ps.1 41 with
        | true =>
          have hlt : ps.1 < Tn tk := sg_lt h41
          rw [if_pos rfl, if_pos rfl, pb_at (p' := pPrg tk dec E M true) (ps' := (ps.1 + 1, ps.2)) (by simp only [pPrg, hk0, h41, if_true, if_false]), rn_set, aL_e, ab_ok, rn_skip]
          refine ih M true don (ps.1 + 1, ps.2) j j0 _ K B0 C0 B1 B F (by omega) (hP.one hlt) hj (by simpa [va_up] using l1) (by simpa [va_up] using l2) (by simpa [va_up] using l3) (Or.inl l1) (by dsimp only; omega) fun ts ps' j' LV' r1 r2 r3 r4 r5 r6 => ?_
          exact hK ts ps' j' LV' (PGe.trans (PG.one hps hlt).e r1) r2 r3 r4 r5 r6
        | false =>
          have l4 : LV 4 = .int (b2i may) := by
            rcases l4 with h | h | h
            · exact h
            · rw [h41] at h; cases h
            · exact absurd h hk0
          rw [if_neg (by decide), if_neg (by decide), rn_if, bNot_e (aCall0_b (m_isDec (by omega) ht hT ha)), ab_ok]
          cases hb : begD tk ps.1 with
          | true =>
            rw [Bool.not_true, if_neg (by decide), pb_at (p' := pb dec (fun o => pb (pPrg tk dec E M false) fun l => pret (o.toList ++ l))) (ps' := ps) (by simp only [pPrg, hk0, h41, hb, Bool.false_eq_true, if_true, if_false]), pb_pb]
            refine m_decStep hd hdg hb hP hj rfl fun t ps1 j1 LV1 g1 hj1 hB1 lk lk4 => ?_
            rw [pb_pb, rn_skip]
            have hl : base ++ don.map tv ++ t.toList.map tv = base ++ (don ++ t.toList).map tv := by simp
            have hl2 : fSm ((o, base ++ (don ++ t.toList).map tv), gg) ≤ fSm ((o, base ++ don.map tv), gg) + 1 := by
              rw [← hl, fSm_push]
              cases t <;> simp
            have hl3 : t.toList.length ≤ 1 := by cases t <;> simp
            rw [hl]
            refine ih M false (don ++ t.toList) ps1 j1 j0 LV1 K B0 C0 (B1 - 10 * t.toList.length) B _ (by omega) (hP.nx g1 (hj.l hj1) (by omega)) hj1 ((lk 1 (by decide)).trans l1) ((lk 2 (by decide)).trans l2) ((lk 3 (by decide)).trans l3) (Or.inl lk4) (by omega) fun ts ps' j' LV' r1 r2 r3 r4 r5 r6 => ?_
            have := hK (t.toList ++ ts) ps' j' LV' (PGe.trans g1.e r1) r2 (by simp; omega) (by simpa using r4) r5 r6
            simpa [pret_pb] using this
          | false =>
            rw [Bool.not_false, if_pos rfl, rn_seq, rn_if, bNot_e (bZn_e (x := may) (by rw [aL_e]; show some (some (LV 4), _) = _; rw [l4])), ab_ok]
            cases may with
            | false =>
              rw [Bool.not_false, if_pos rfl, rn_ex, aCall_nil, m_stop (by omega), ab_no, pb_at (p' := pflt 1) (ps' := ps) (by simp only [pPrg, hk0, h41, hb, Bool.false_eq_true, if_false])]
              exact ctm_flt hj
            | true =>
              rw [Bool.not_true, if_neg (by decide), rn_skip, rn_seq, rn_set, aCall_nil]
              rw [pb_at (p' := pb E (fun e ps' => if (sg tk ps'.1 41 || decide (kAt tk ps'.1 = 0)) = true then
                pb (pPrg tk dec E M true) (fun l => pret (tIt e ps.1 :: l)) ps' else pflt 1 ps')) (ps' := ps) (by simp only [pPrg, hk0, h41, hb, Bool.false_eq_true, if_false, if_true]; rfl), pb_pb]
              refine ctm_st hE hEg (by omega) (by omega) hP hj fun e ps1 j1 g1 hP1 hj1 hB1 => ?_
              obtain ⟨_, hT1, hps1, ha1, _, hfr1, hS1⟩ := id hP1
              rw [rn_seq, rn_if, bAnd_e (mLt ht hT1 (by omega) mF13) (bNot_e (mS n (by omega) ht hT1 ha1 41)), ab_ok, k0_iff ht, ← Bool.not_or, Bool.or_comm]
              cases hc : (sg tk ps1.1 41 || decide (kAt tk ps1.1 = 0)) with
              | false =>
                rw [Bool.not_false, if_pos rfl, rn_ex, aCall_nil, m_stop (by omega), ab_no, pb_at (p' := pflt 1) (ps' := ps1) (by simp only [hc, Bool.false_eq_true, if_false])]
                exact ctm_flt hj1
              | true =>
                rw [Bool.not_true, if_neg (by decide), rn_skip, pb_at (p' := pb (pPrg tk dec E M true) (fun l => pret (tIt e ps.1 :: l))) (ps' := ps1) (by simp only [hc, if_true]), pb_pb]
                have hlen : o + (base ++ don.map tv).length < ALM := by simp only [fSm] at hS; omega
                have psh : base ++ don.map tv ++ [tv (tIt e ps.1)] = base ++ (don ++ [tIt e ps.1]).map tv := by simp
                have hl : fSm ((o, base ++ (don ++ [tIt e ps.1]).map tv), gg) = fSm ((o, base ++ don.map tv), gg) + 1 := by simp [fSm]; omega
                have ev := m_variable (m := n) (ps := ps1) (f := ((o, base ++ don.map tv), gg)) (j := j1) (i := 5) (p := nI ps.1) (by omega) (by omega) (by decide) (by omega)
                have em2 := m_make (m := n) (ps := ps1) (f := ((o, base ++ don.map tv), gg)) (j := mkN j1 1) (k := 71) (p := nI ps.1) (a := tv (tVar 5 (nI ps.1))) (b := tv e) (c := .int 0) (by omega) (by simp only [mkN_nn]; omega) (by decide) rfl rfl rfl
                have es := m_single (m := n) (ps := ps1) (f := ((o, base ++ don.map tv), gg)) (j := mkN (mkN j1 1) 1) (t := (71, tv (tVar 5 (nI ps.1)), tv e, .int 0, nI ps.1)) (by omega) (by simp only [mkN_nn]; omega)
                have em1 : aM n 16 [.int 70, .int (-1), tLi [(71, tv (tVar 5 (nI ps.1)), tv e, .int 0, nI ps.1)], .int (-1), .int (nI ps.1)] (stM ps1 ((o, base ++ don.map tv), gg) (mkN (mkN (mkN j1 1) 1) 1)) = some (some (tv (tIt e ps.1)), stM ps1 ((o, base ++ don.map tv), gg) (mkN (mkN (mkN (mkN j1 1) 1) 1) 1)) := m_make (by omega) (by simp only [mkN_nn]; omega) (by decide) rfl rfl rfl
                have em3 := ma17 (ps := ps1) (f := ((o, base ++ don.map tv), gg)) (j := mkN (mkN (mkN (mkN j1 1) 1) 1) 1) (v := tv (tIt e ps.1)) hlen
                simp only [rn_seq, rn_set, rn_add, aCall, aArgs, aL, aK, ab_ok, A0of, va_up, List.length_nil, List.length_cons, List.getD_cons_zero, List.getD_cons_succ, List.getD_nil, if_true, if_false, Bool.not_not, Bool.not_true, Bool.not_false, Bool.false_eq_true, reduceIte, Nat.reduceSub, Nat.reduceAdd, Nat.reduceEqDiff, ev, em2, es, em1, em3, og_ok, psh, rn_skip]
                refine ih M true (don ++ [tIt e ps.1]) ps1 _ j0 _ K B0 C0 (B1 - 20) B _ (by omega) (hP.nx g1 (((((hj.l hj1).mk _).mk _).mk _).mk _) (by rw [hl]; simp only [mkN_nn]; omega)) (((((hj1.mk _).mk _).mk _).mk _)) (by simpa [va_up] using l1) (by simpa [va_up] using l2) (by simpa [va_up] using l3) (Or.inr (by simpa using hc)) (by simp only [mkN_nn]; omega) fun ts ps' j' LV' r1 r2 r3 r4 r5 r6 => ?_
                have := hK (tIt e ps.1 :: ts) ps' j' LV' (PGe.trans g1.e r1) r2 (by simp; omega) (by simpa using r4) r5 r6
                simpa [pret_pb] using this
theorem m_program (hd : ∀ n, c ≤ n → DecM tk n dec) (hdg : PGg tk dec) (hEg : PGr tk E) (hE : CoM false tv tk c 30 12 [] E) (k : Nat) (ps : PS) (f : FM) (j : AS) (B : Nat) (hk : max c 5 + 1 ≤ k) (hP : PRM tk ps f j k) (hB : j.nn + 100 * (Tn tk - ps.1) + 1 ≤ B) : CTm false tv tk f j B (aM k 5 [.int 1] (stM ps f j)) (pb (pPrg tk dec E LF true) (fun l => pret (84, tLi l, no, no, nI ps.1)) ps) := by
  obtain ⟨n, rfl⟩ := suc1 (m := k) (by omega)
  obtain ⟨⟨o, base⟩, g⟩ := f
  have hA : ALM = 30000 := rfl
  have hil0 : fSm ((o, base), g) = o + base.length + g.1 + g.2.length := rfl
  rw [eM_decs, zM_decs, amth_run, if_pos (show [Term.int 1].length = 1 from rfl), fin_ok, run_seq, run_set, aF_e, kS_ok, sM_f13, run_seq, run_set, aSz_e, kS_ok, sM_R17, sM_o17, run_seq, run_set, aL_e, kS_ok, run_seq, run_rn]
  have hP' : PRM tk ps ((o, base ++ ([] : List TR).map tv), g) j (n + 1) := by simpa using hP
  have := m_prg (em := tv) (fo := ((o, base), g)) (base := base) (gg := g) (o := o) (w2 := .int (nI ps.1)) (w3 := .int (nI (o + base.length))) (hd n (by omega)) hdg hEg hE (by omega) 99999 LF true [] ps j j (va_up (va_up (va_up (A0of true [.int 1]) 2 (.int (nI ps.1))) 3 (.int (nI (o + base.length)))) 4 (.int 1)) (run [zRet (aCall (aM n) 16 [(aK 84), (aCall (aM n) 42 [(aL 3)]), (aK (-1)), (aK (-1)), (aL 2)])] nk) nk nk (j.nn + 100 * (Tn tk - ps.1)) B (fun l => pret (84, tLi l, no, no, nI ps.1)) (by decide) hP' (jfm.rf j) rfl rfl rfl (Or.inl rfl) (Nat.le_refl _) fun ts ps' j' LV' r1 r3 r4 r5 r6 r7 => ?_
  · simp only [List.map_nil, List.append_nil] at this
    exact this
  · rw [List.nil_append, fSm_push, List.length_map, hil0] at r5
    rw [List.nil_append]
    have el := m_list (m := n) (ps := ps') (j := j') (by omega) (o := o) (base := base) (items := ts) (g := g) (by omega) (by omega) (by omega)
    have emk := m_make (m := n) (ps := ps') (f := ((o, base), g)) (j := mkN j' ts.length) (k := 84) (p := nI ps.1) (a := tLi ts) (b := .int (-1)) (c := .int (-1)) (by omega) (by rw [mkN_nn]; omega) (by decide) (okLi ts) rfl rfl
    rw [run_ret]
    simp only [aCall_5, aCall_1, aK_e, aL_e, ab_ok, r6, r7, el, emk]
    exact ctm_ret (v := (84, tLi ts, no, no, nI ps.1)) ((r3.mk _).mk _) (by simp only [mkN_nn]; omega)
end MDS
