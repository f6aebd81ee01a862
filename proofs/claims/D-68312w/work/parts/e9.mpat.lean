/-! M: patterns -/
section MPT
variable {α β : Type} {W : Bool} {em : α → V} {em2 : β → V} {tk : TK} {f f1 f' fo : FM} {j j1 j' j0 : AS} {B B1 a : Nat} {r : Option (Option V × AS)} {ps ps' : PS} {m n k k' : Nat} {LV : AL}
theorem ctp_bind {p : PA α} {F : α → PA TR} {g : V → AS → Option (Option V × AS)} (hj : jfm W j j1) (h : CTm W em tk f1 j1 B1 r (p ps))
    (hk : ∀ v ps' j', p ps = some (.inl (v, ps')) → jfm W j j' → j'.nn + 100 * (Tn tk - ps'.1) ≤ B1 → CTp W tk f j B a (g (em v) (stM ps' f1 j')) (F v ps')) : CTp W tk f j B a (ab r g) (pb p F ps) := by
  unfold pb
  cases hp : p ps with
  | none => exact trivial
  | some q =>
    rw [hp] at h
    match q, hp, h with
    | .inr e, _, h =>
      obtain ⟨A', e1, q1⟩ := h
      subst e1
      exact Or.inl ⟨A', rfl, q1.l hj⟩
    | .inl (v, ps'), hp, h =>
      obtain ⟨j', e1, q1, q2⟩ := h
      subst e1
      exact hk v ps' j' hp (hj.trans q1) q2
theorem ctp_enter {F : PA TR} {g : V → AS → Option (Option V × AS)} (hm : 2 ≤ m) (hP : PRM tk ps f j k) (hj : jfm W j0 j) (h : ps.2.1 < 32 → CTp W tk fo j0 B a (g (.int 0) (stM (ps.1, ps.2.1 + 1, ps.2.2) f j)) (F (ps.1, ps.2.1 + 1, ps.2.2))) : CTp W tk fo j0 B a (ab (aM m 15 [] (stM ps f j)) g) (pEnter F ps) := by
  rw [m_enter hm hP.2.2.2.2.1]
  unfold pEnter
  by_cases hc : ps.2.1 < 32
  · simp only [hc, if_true, ab_ok]
    exact h hc
  · simp only [hc, if_false, ab_no]
    exact ctp_of (ctm_flt hj)
theorem tTyd_snoc (b : Nat) (t : TR) (ts : List TR) (y : TR) : tTyd 36 b t (ts ++ [y]) = (36, tv (tTyd 36 b t ts), tv y, no, nI b) := by
  unfold tTyd
  rw [List.foldl_append]
  rfl
theorem m_cols {ty : PA TR} {c b : Nat} {t : TR} (htg : PGr tk ty) (hty : CoM W tv tk c 30 35 [] ty) (hn : max c 2 ≤ n) (N : Nat) : ∀ (M : Nat) (don : List TR) (ps : PS) (j : AS) (LV : AL) (K B0 C0 : KT) (B1 : Nat) (F : List TR → PA TR), M ≤ N → PRM tk ps f j (n + 1) → jfm W j0 j → LV 1 = .int (nI b) → LV 3 = tv (tTyd 36 b t don) → LV 5 = ov don.getLast? → LV 6 = .int (nI don.length) → j.nn + 100 * (Tn tk - ps.1) ≤ B1 →
    (∀ ts ps' j' LV', PGe tk ps ps' → jfm W j0 j' → j'.nn + 100 * (Tn tk - ps'.1) + 100 * ts.length ≤ B1 → LV' 1 = .int (nI b) → LV' 2 = LV 2 → LV' 4 = LV 4 → LV' 3 = tv (tTyd 36 b t (don ++ ts)) → LV' 5 = ov (don ++ ts).getLast? → LV' 6 = .int (nI (don ++ ts).length) → CTp W tk fo j0 B a (K LV' (stM ps' f j')) (F ts ps')) →
    CTp W tk fo j0 B a (rn (zWh (N + 1) (bZ .ne (aCall (aM n) 9 [(aK 40)])) (zSeq (zSet 5 (aCall (aM n) 35 [])) (zSeq (zInc 6 1) (zSet 3 (aCall (aM n) 16 [(aK 36), (aL 3), (aL 5), (aK (-1)), (aL 1)])))) zSkip LV (stM ps f j)) K B0 C0) (pb (pCols tk ty M) F ps) := by
  induction N with
  | zero =>
    intro M don ps j LV K B0 C0 B1 F hM
    have : M = 0 := by omega
    subst this
    intros
    exact trivial
  | succ N ih =>
    intro M don ps j LV K B0 C0 B1 F hM hP hj l1 l3 l5 l6 hB hK
    cases M with
    | zero => exact trivial
    | succ M =>
      obtain ⟨ht, hT, hps, ha, hop, hfr, hS⟩ := id hP
      have hA : ALM = 30000 := rfl
      rw [rn_wh, m_eatB (by omega) hP, ab_ok]
      cases h40 : sg tk ps.1 40 with
      | false =>
        rw [if_neg (by decide), if_neg (by decide), pb_val (v := []) (ps' := ps) (by simp only [pCols, h40, Bool.false_eq_true, if_false])]
        exact hK [] ps j LV (PGe.rf hps ha) hj (by simpa using hB) l1 rfl rfl (by simpa using l3) (by simpa using l5) (by simpa using l6)
      | true =>
        have hlt : ps.1 < Tn tk := sg_lt h40
        rw [if_pos rfl, if_pos rfl, pb_at (p' := pb ty (fun t => pb (pCols tk ty M) fun ts => pret (t :: ts))) (ps' := (ps.1 + 1, ps.2)) (by simp only [pCols, h40, if_true]), pb_pb, rn_seq, rn_set, aCall_nil]
        refine ctp_bind (B1 := j.nn + 100 * (Tn tk - (ps.1 + 1)) - 30) hj (hty n (ps.1 + 1, ps.2) f j _ (by omega) (hP.one hlt).dn (by dsimp only; omega)) fun y ps1 j1 hp hj1 hB1 => ?_
        have hpg := htg (ps.1 + 1, ps.2) y ps1 hps hp
        obtain ⟨c1, c2, c3, c4, c5⟩ := id hpg
        dsimp only at c1
        have q1' := PG.trans (PG.one hps hlt).e hpg
        have e36 := m_make (m := n) (ps := ps1) (f := f) (j := j1) (k := 36) (p := nI b) (a := tv (tTyd 36 b t don)) (b := tv y) (c := .int (-1)) (by omega) (by omega) (by decide) rfl rfl rfl
        have e6 : ∀ (L : AL) (A : AS), L 6 = .int (nI don.length) → ab (aok (vbin oAdd (L 6) (.int 1)) A) = ab (some (some (.int (nI (don.length + 1))), A)) (β := V) := by
          intro L A h
          rw [h, vbin_i, aok_ok, show oAdd (nI don.length) 1 = nI (don.length + 1) from nI_1 _]
        rw [rn_seq, rn_inc, show va_up LV 5 (tv y) 6 = LV 6 from rfl, l6, vbin_i, aok_ok, ab_ok, show oAdd (nI don.length) 1 = nI (don.length + 1) from nI_1 _, rn_set]
        simp only [aCall, aArgs, aK, aL, ab_ok, A0of, va_up, List.length_nil, List.length_cons, List.getD_cons_zero, List.getD_cons_succ, List.getD_nil, if_true, if_false, Bool.not_not, Bool.not_true, Bool.not_false, Bool.false_eq_true, reduceIte, Nat.reduceSub, Nat.reduceAdd, Nat.reduceEqDiff, l1, l3, e36, rn_skip]
        rw [pb_pb, ← tTyd_snoc]
        refine ih M (don ++ [y]) ps1 (mkN j1 1) _ K B0 C0 (B1 - 100) _ (by omega) (hP.nx q1' ((hj.l hj1).mk _) (by rw [mkN_nn]; omega)) (hj1.mk _) (by simpa [va_up] using l1) rfl (by simp [va_up, ov]) (by simp [va_up]) (by rw [mkN_nn]; omega) fun ts ps'' j'' LV'' r1 r2 r3 r4 r5 r6 r7 r8 r9 => ?_
        have := hK (y :: ts) ps'' j'' LV'' (PGe.trans q1'.e r1) r2 (by simp; omega) r4 (by rw [r5]; simp [va_up]) (by rw [r6]; simp [va_up]) (by simpa using r7) (by simpa using r8) (by simpa using r9)
        simpa [pret_pb] using this
theorem patV_le {ty pat : PA TR} (ht : tkOK tk) {t : TR} (h : pInf tk true (pAppl tk ty pat) ps = some (.inl (t, ps'))) (hb : bareB tk ps = true) (h32 : t.1 = 32) : patN t ≤ 8191 := by
  have hap : pApat tk ty pat ps = some (.inl (t, ps')) := by
    rcases inf_inv h with h | h
    · rw [h32] at h; exact absurd h (by decide)
    · rcases appl_inv h with h | h
      · rw [h32] at h; exact absurd h (by decide)
      · exact h
  have hap := (grT_ok hap).1
  have hid : idB tk ps = true := by
    unfold bareB at hb
    unfold idB
    rcases (Bool.or_eq_true _ _).mp hb with h | h <;> rw [h] <;> simp
  obtain ⟨i1, i2, i3⟩ := id_k1 hid
  rw [if_neg (by rw [i1]; decide), if_pos i2, pIdent_id hid] at hap
  obtain ⟨v, ps1, k1, k2⟩ := pb_inv hap
  cases k2
  show v.1 ≤ 8191
  unfold idV at k1
  split at k1
  · split at k1
    · split at k1
      · cases k1
      · cases k1; decide
    · split at k1
      · next hn => cases k1; exact (nm_val ht hn).2.2
      · cases k1
  · split at k1
    · cases k1
      show (-1 : Int32) ≤ 8191
      decide
    · split at k1
      · next hn => cases k1; exact (nm_val ht hn).2.2
      · cases k1
theorem m_pat {ty pat : PA TR} {c : Nat} (hkp : KP tk pat) (hpt2 : PGt tk pat) (hpg : PGr tk pat) (hpt : CoP W tk c 30 18 [] pat) (htg : PGr tk ty) (hty : CoM W tv tk c 30 35 [] ty) (hinf : CoM W tv tk c 40 22 [.int 1] (pInf tk true (pAppl tk ty pat))) : CoP W tk (max c 6 + 1) 30 18 [] (pPat tk ty pat) := by
  intro k ps f j B hk hP hB
  obtain ⟨n, rfl⟩ := suc1 (m := k) (by omega)
  obtain ⟨ht, hT, hps, ha, hop, hfr, hS⟩ := id hP
  have hA : ALM = 30000 := rfl
  refine ctp_gT ?_
  have ebare : ∀ L : AL, aCall (aM n) 19 [] L (stM ps f j) = some (some (.int (b2i (bareB tk ps))), stM ps f j) := fun L => m_isBare (by omega) ht hT ha hps
  rw [eM_pat, zM_pat, amth_run, List.length_nil, if_pos rfl, fin_ok, run_seq, run_set, aF_e, kS_ok, sM_f13, run_seq, run_set, ebare, kS_ok, run_seq, run_set, aCall_1, aK_e, ab_ok, kS_ab]
  refine ctp_bind (B1 := j.nn + 100 * (Tn tk - ps.1) - 40) (jfm.rf j) (ctm_gT (hinf n ps f j _ (by omega) hP.dn (by omega))) fun t ps1 j1 hp hj1 hB1 => ?_
  obtain ⟨hp0, g1, g2, g3⟩ := grT_ok hp
  obtain ⟨a1, s1⟩ := ps1
  dsimp only at g1 g2 g3 hB1
  subst g3
  have hT1 : TKM tk j1 := hT.jfm hj1
  have hltb : ps.1 < Tn tk := by omega
  by_cases hg : t.1 = 32 ∧ vI t.2.1 = none
  · rw [if_pos hg]
    exact trivial
  · rw [if_neg hg]
    have hkt := kp_inf hkp ps t (a1, ps.2) hp0
    obtain ⟨n4, hn4⟩ : ∃ w, ndF cvM 1 (tv t) = some w ∧ (t.1 = 32 → 0 ≤ patN t → patN t ≤ 8191 → w = .int (patN t)) := by
      by_cases h32 : t.1 = 32
      · obtain ⟨i, hi⟩ := hkt.1 h32
        refine ⟨.int (cvM i), nd1n _ _ (Or.inr h32) hi, fun _ h0 h1 => ?_⟩
        have hpn : patN t = i := by unfold patN; rw [hi]; rfl
        rw [hpn] at h1 ⊢
        rw [(ucv_nm h1).2]
      · exact ⟨t.2.1, nd1 _ _ (by intro h; rcases h with h | h; exact hkt.2 h; exact h32 h), fun h => absurd h h32⟩
    have ecn : ∀ L : AL, L 1 = .int (nI ps.1) → L 2 = .int (b2i (bareB tk ps)) → L 3 = tv t → (bAnd (bAnd (bZ .ne (aL 2)) (bCmp .eq (aNd cvM 0 (aL 3)) (aK 32))) (bOr (bCmp .eq (aF 13) (aBin oAdd (aL 1) (aK 1))) (bAnd (bCmp .eq (aF 13) (aBin oAdd (aL 1) (aK 2))) (bCmp .eq (aAt 0 (aL 1)) (aK 1))))) L (stM (a1, ps.2) f j1) = some (some (patV tk ps.1 a1 t), stM (a1, ps.2) f j1) := by
      intro L l1 l2 l3
      rw [← patV_eq ht hpt2 hp0]
      have hL1 : ∀ A : AS, aL 1 L A = some (some (.int (nI ps.1)), A) := fun A => by rw [aL_e, l1]
      have e1 : bCmp .eq (aF 13) (aBin oAdd (aL 1) (aK 1)) L (stM (a1, ps.2) f j1) = some (some (decide (a1 = ps.1 + 1)), stM (a1, ps.2) f j1) := by
        have d : decide (nI a1 = nI (ps.1 + 1)) = decide (a1 = ps.1 + 1) := by
          rw [decide_eq_decide]
          exact ⟨fun h => nI_inj (by have := ht.2.2.1; have : Tn tk = tk.1.length := rfl; omega) (by have := ht.2.2.1; have : Tn tk = tk.1.length := rfl; omega) h, fun h => by rw [h]⟩
        simp only [d10, eq_self, decide_true, decide_false, ti_b, b2i_t, b2i_f, aK, aL, aF, aSz, aBin, aDiv, aB, aAt, aNd, aArgs, aCall, aIf, bCmp, bZ, bAnd, bOr, bNot, bTT, bIf, ab_ok, ab_no, ab_none, ab_ab, ab_ite, aok_ok, aok_none, og_ok, og_none, vbin_i, vb8_i, vput_i, vI_i, cmp_i, hold_eq, hold_ne, hold_lt, hold_ge, hold_gt, hold_le, b2i_0, ss_b, ss_ite, oAdd, oSub, oMul, Option.bind_some, A0of, va_up, List.length_nil, List.length_cons, List.getD_cons_zero, List.getD_cons_succ, List.getD_nil, if_true, if_false, Bool.not_not, Bool.not_true, Bool.not_false, Bool.false_eq_true, reduceIte, Nat.reduceSub, Nat.reduceAdd, Nat.reduceEqDiff, sM_f13, sM_f14, sM_f11, sM_f19, sM_f20, sM_f21, sM_R17, sM_R18, sM_R4, sM_R5, sM_o17, sM_o18, sM_o4, sM_o5, sM_nn, sM_fl, l1, nI_1, d]
      have e2 : bCmp .eq (aF 13) (aBin oAdd (aL 1) (aK 2)) L (stM (a1, ps.2) f j1) = some (some (decide (a1 = ps.1 + 2)), stM (a1, ps.2) f j1) := by
        have d : decide (nI a1 = nI (ps.1 + 2)) = decide (a1 = ps.1 + 2) := by
          rw [decide_eq_decide]
          exact ⟨fun h => nI_inj (by have := ht.2.2.1; have : Tn tk = tk.1.length := rfl; omega) (by have := ht.2.2.1; have : Tn tk = tk.1.length := rfl; omega) h, fun h => by rw [h]⟩
        simp only [d10, eq_self, decide_true, decide_false, ti_b, b2i_t, b2i_f, aK, aL, aF, aSz, aBin, aDiv, aB, aAt, aNd, aArgs, aCall, aIf, bCmp, bZ, bAnd, bOr, bNot, bTT, bIf, ab_ok, ab_no, ab_none, ab_ab, ab_ite, aok_ok, aok_none, og_ok, og_none, vbin_i, vb8_i, vput_i, vI_i, cmp_i, hold_eq, hold_ne, hold_lt, hold_ge, hold_gt, hold_le, b2i_0, ss_b, ss_ite, oAdd, oSub, oMul, Option.bind_some, A0of, va_up, List.length_nil, List.length_cons, List.getD_cons_zero, List.getD_cons_succ, List.getD_nil, if_true, if_false, Bool.not_not, Bool.not_true, Bool.not_false, Bool.false_eq_true, reduceIte, Nat.reduceSub, Nat.reduceAdd, Nat.reduceEqDiff, sM_f13, sM_f14, sM_f11, sM_f19, sM_f20, sM_f21, sM_R17, sM_R18, sM_R4, sM_R5, sM_o17, sM_o18, sM_o4, sM_o5, sM_nn, sM_fl, l1, nI_2, d]
      have e3 : bCmp .eq (aNd cvM 0 (aL 3)) (aK 32) L (stM (a1, ps.2) f j1) = some (some (decide (t.1 = 32)), stM (a1, ps.2) f j1) := by
        refine bEq_e ?_
        unfold aNd
        rw [aL_e, ab_ok, l3, nd0]
        rfl
      exact bAnd_e (bAnd_e (bZn_e (by rw [aL_e, l2])) e3) (bOr_e e1 (bAnd_e e2 (bEq_e (mAt0 ht hT1 hltb (hL1 _)))))
    have end4 : ∀ (L : AL) (A : AS), L 3 = tv t → aNd cvM 1 (aL 3) L A = some (some n4, A) := by
      intro L A l3
      unfold aNd
      rw [aL_e, ab_ok, l3, hn4.1]
      rfl
    rw [run_seq, run_set, aIf01 (ecn _ rfl rfl rfl), kS_ok, run_seq, run_set, end4 _ _ rfl, kS_ok, run_seq, run_set, aK_e, kS_ok, run_seq, run_set, aK_e, kS_ok, run_seq, run_rn]
    have hP1 : PRM tk (a1, ps.2) f j1 (n + 1) := hP.at (by omega) g2 hj1 (by omega)
    refine m_cols (t := t) (b := ps.1) htg hty (by omega) 99999 LF [] (a1, ps.2) j1 _ _ nk nk (j1.nn + 100 * (Tn tk - a1)) _ (by decide) hP1 hj1 rfl rfl rfl rfl (Nat.le_refl _) fun ts ps2 j2 L2 r1 r2 r3 l1 l2 l4 l3 l5 l6 => ?_
    rw [List.nil_append] at l3 l5 l6
    have hP2 : PRM tk ps2 f j2 (n + 1) := hP1.nxe r1 (hj1.l r2) (by omega)
    obtain ⟨_, hT2, hps2, ha2, ho2, hfr2, hS2⟩ := id hP2
    have l2' : L2 2 = .int (b2i (patV tk ps.1 a1 t)) := l2
    have l4' : L2 4 = n4 := l4
    have r11 := r1.1
    dsimp only at r11
    have hlen : ts.length ≤ 400 := by omega
    have ec2 : (bAnd (bAnd (bZ .ne (aL 2)) (bCmp .lt (aL 6) (aK 2))) (bZ .ne (aCall (aM n) 6 [(aK 4)]))) L2 (stM ps2 f j2) = some (some (patV tk ps.1 a1 t && decide (ts.length < 2) && sg tk ps2.1 4), stM ps2 f j2) := by
      have e6 : bCmp .lt (aL 6) (aK 2) L2 (stM ps2 f j2) = some (some (decide (ts.length < 2)), stM ps2 f j2) := by
        have d : decide (nI ts.length < 2) = decide (ts.length < 2) := by
          rw [show (2 : Int32) = nI 2 from rfl, decide_eq_decide]
          exact nI_ltI (by omega) (by decide)
        simp only [d10, eq_self, decide_true, decide_false, ti_b, b2i_t, b2i_f, aK, aL, aF, aSz, aBin, aDiv, aB, aAt, aNd, aArgs, aCall, aIf, bCmp, bZ, bAnd, bOr, bNot, bTT, bIf, ab_ok, ab_no, ab_none, ab_ab, ab_ite, aok_ok, aok_none, og_ok, og_none, vbin_i, vb8_i, vput_i, vI_i, cmp_i, hold_eq, hold_ne, hold_lt, hold_ge, hold_gt, hold_le, b2i_0, ss_b, ss_ite, oAdd, oSub, oMul, Option.bind_some, A0of, va_up, List.length_nil, List.length_cons, List.getD_cons_zero, List.getD_cons_succ, List.getD_nil, if_true, if_false, Bool.not_not, Bool.not_true, Bool.not_false, Bool.false_eq_true, reduceIte, Nat.reduceSub, Nat.reduceAdd, Nat.reduceEqDiff, l6, d]
      exact bAnd_e (bAnd_e (bZn_e (by rw [aL_e, l2'])) e6) (mS n (by omega) ht hT2 ha2 4)
    rw [run_seq, run_if, ec2]
    cases h4 : sg tk ps2.1 4 with
    | false =>
      rw [Bool.and_false, kI_f, run_skip, run_ret, aL_e, l3, if_neg (show ¬ false = true by decide)]
      exact ⟨j2, rfl, r2, by omega⟩
    | true =>
      have hlt2 : ps2.1 < Tn tk := sg_lt h4
      rw [Bool.and_true, if_pos rfl]
      cases hv : (patV tk ps.1 a1 t && decide (ts.length < 2)) with
      | false =>
        rw [kI_f, run_skip, run_ret, aL_e, l3, if_neg (show ¬ false = true by decide)]
        exact Or.inr ⟨_, ps2, j2, rfl, r2, h4, by omega, rfl, by omega⟩
      | true =>
        have hpv := ((Bool.and_eq_true _ _).mp hv).1
        have hts := of_decide_eq_true ((Bool.and_eq_true _ _).mp hv).2
        have hpv' := hpv
        unfold patV at hpv'
        simp only [Bool.and_eq_true, decide_eq_true_eq] at hpv'
        have hbare : bareB tk ps = true := by
          have := patV_eq ht hpt2 hp0
          dsimp only at this
          rw [hpv] at this
          exact ((Bool.and_eq_true _ _).mp ((Bool.and_eq_true _ _).mp this).1).1
        have hle := patV_le ht hp0 hbare hpv'.1.1
        have hn4' : n4 = .int (patN t) := hn4.2 hpv'.1.1 hpv'.1.2 hle
        have hgl : ts.getLast? = ts.head? := by
          match ts, hts with
          | [], _ => rfl
          | [x], _ => rfl
        rw [hgl] at l5
        rw [hn4'] at l4'
        rw [kI_t, if_pos rfl, run_seq, run_ex, aCall_nil, kE_ab]
        unfold pLayer
        refine ctp_enter (by omega) hP2 r2 fun hop2 => ?_
        have e5 : ∀ A : AS, bCmp .lt (aL 4) (aK 5) L2 A = some (some (isProt (patN t)), A) := by
          intro A
          unfold bCmp
          rw [aL_e, ab_ok, l4', aK_e, ab_ok, cmp_i, hold_lt, nm5 hpv'.1.2]
          rfl
        rw [run_seq, run_if, e5]
        cases hpr : isProt (patN t) with
        | true =>
          rw [kI_t, run_ex, aCall_2, aK_e, ab_ok, aF_e, ab_ok, m_fail (by omega), kE_no, if_pos rfl]
          exact ctp_of (ctm_flt r2)
        | false =>
          rw [kI_f, run_skip, if_neg (show ¬ false = true by decide)]
          unfold pAdv
          rw [if_pos hlt2]
          have hP3 := hP2.op hop2 hlt2
          rw [run_seq, run_opF, aK_e, kOF_ok, sM_f13, show oAdd (nI ps2.1) 1 = nI (ps2.1 + 1) from nI_1 _, sM_p13, run_seq, run_set]
          have ear : ∀ A, aCall (aM n) 16 [(aK 37), (aL 4), (aL 5), (aCall (aM n) 18 []), (aL 1)] L2 A = ab (aM n 18 [] A) fun v A => aM n 16 [.int 37, .int (patN t), ov ts.head?, v, .int (nI ps.1)] A := by
            intro A
            simp only [aCall, aArgs, aK, aL, ab_ok, ab_ab, A0of, va_up, List.length_nil, List.length_cons, List.getD_cons_zero, List.getD_cons_succ, List.getD_nil, if_true, if_false, Bool.not_not, Bool.not_true, Bool.not_false, Bool.false_eq_true, reduceIte, Nat.reduceSub, Nat.reduceAdd, Nat.reduceEqDiff, l4', l5, l1]
          rw [ear, kS_ab, ab_ab]
          have okt := okOv ts.head?
          have hct := hpt n (ps2.1 + 1, ps2.2.1 + 1, ps2.2.2) f j2 (j2.nn + 100 * (Tn tk - (ps2.1 + 1))) (by omega) hP3.dn (by dsimp only; omega)
          unfold pb
          cases hpp : pat (ps2.1 + 1, ps2.2.1 + 1, ps2.2.2) with
          | none => exact trivial
          | some q =>
            rw [hpp] at hct
            match q, hpp, hct with
            | .inr e, _, .inl ⟨A', e1, q1⟩ =>
              rw [e1]
              exact Or.inl ⟨A', rfl, q1.l r2⟩
            | .inr e, _, .inr ⟨v, ps3, j3, e1, q1, q2, q5, q3, q4⟩ =>
              have e37 := m_make (m := n) (ps := ps3) (f := f) (j := j3) (k := 37) (p := nI ps.1) (a := .int (patN t)) (b := ov ts.head?) (c := tv v) (by omega) (by omega) (by decide) rfl okt rfl
              obtain ⟨y, hy0⟩ := nI_subx ps3.2.1
              rw [e1, ab_ok, e37, ab_ok, run_opF, aK_e, kOF_ok, sM_f14, hy0, sM_p14, run_ret, aL_e]
              exact Or.inr ⟨_, (ps3.1, y, ps3.2.2), mkN j3 1, rfl, ((r2.trans q1).mk _), q2, by dsimp only at q5 ⊢; omega, q3, by rw [mkN_nn]; dsimp only; omega⟩
            | .inl (v, ps3), hpp, hct =>
              obtain ⟨j3, e1, q1, q2⟩ := hct
              have g3 := hpg (ps2.1 + 1, ps2.2.1 + 1, ps2.2.2) v ps3 hps2 hpp
              have c1 := g3.1
              have o3 := g3.2.2.1
              dsimp only at c1 o3
              have e37 := m_make (m := n) (ps := ps3) (f := f) (j := j3) (k := 37) (p := nI ps.1) (a := .int (patN t)) (b := ov ts.head?) (c := tv v) (by omega) (by omega) (by decide) rfl okt rfl
              have e14 : nI ps3.2.1 - 1 = nI (ps3.2.1 - 1) := nI_sub1 (by omega)
              rw [e1, ab_ok, e37, ab_ok, run_opF, aK_e, kOF_ok, sM_f14, show oSub (nI ps3.2.1) 1 = nI (ps3.2.1 - 1) from e14, sM_p14, run_ret, aL_e]
              exact ⟨mkN j3 1, rfl, (r2.trans q1).mk _, by rw [mkN_nn]; dsimp only; omega⟩
theorem m_patterns : ∀ n, CoP W tk (400 + 15 * n) 30 18 [] (pPt n tk) := by
  intro n
  induction n with
  | zero => exact fun _ _ _ _ _ _ _ _ => trivial
  | succ n ih =>
    have hty := m_types (W := W) (tk := tk) 40
    have htg : PGr tk (pTy 40 tk) := (x_types (W := W) 40).2
    have hpg : PGr tk (pPt n tk) := (x_patterns (W := W) n).2
    have hpt2 : PGt tk (pPt n tk) := by
      cases n with
      | zero => intro ps v ps' h; cases h
      | succ n => exact pgt_grT
    have hap := m_atomicPattern (c := 400 + 15 * n) hpg ih htg (fun k ps f j B hk => hty k ps f j B (by omega))
    have hal := m_applied hap
    have hin := m_infix (q := true) (W := W) (tk := tk) (opd := pAppl tk (pTy 40 tk) (pPt n tk)) (c := 405 + 15 * n) (fun m hm => opd_pat pgr_grT hal (by omega))
    have hp := m_pat (c := 407 + 15 * n) (kp_pt n) hpt2 hpg (fun k ps f j B hk => ih k ps f j B (by omega)) htg (fun k ps f j B hk => hty k ps f j B (by omega)) (fun k ps f j B hk => hin k ps f j B (by omega))
    exact fun k ps f j B hk => hp k ps f j B (by omega)
end MPT
