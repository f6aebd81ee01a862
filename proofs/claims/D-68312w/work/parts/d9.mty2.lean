/-! M: products, arrows -/
section MT2
variable {α : Type} {W : Bool} {em : α → V} {tk : TK} {f f1 f' fo : FM} {j j1 j' j0 : AS} {B B1 : Nat} {ps ps' : PS} {m n k' : Nat} {LV : AL}
theorem m_stars {ty : PA TR} {c o : Nat} {base : List V} {g : Nat × List V} (hcon : CoM W tv tk c 60 37 [] (pCon tk ty)) (hn : max c 2 ≤ n) (N : Nat) : ∀ (M : Nat) (don : List TR) (ps : PS) (j : AS) (LV : AL) (K B0 C0 : KT) (B1 : Nat) (F : List TR → PA α), M ≤ N → PRM tk ps ((o, base ++ don.map tv), g) j (n + 1) → jfm W j0 j → j.nn + 100 * (Tn tk - ps.1) ≤ B1 →
    (∀ ts ps' j', PGe tk ps ps' → jfm W j0 j' → j'.nn + 100 * (Tn tk - ps'.1) + 100 * ts.length ≤ B1 → fSm ((o, base ++ (don ++ ts).map tv), g) + j'.nn + 8 * (n + 1) + 100 * (Tn tk - ps'.1) ≤ 29000 → CTm W em tk fo j0 B (K LV (stM ps' ((o, base ++ (don ++ ts).map tv), g) j')) (F ts ps')) →
    CTm W em tk fo j0 B (rn (zWh (N + 1) (bAnd (bCmp .eq (aCall (aM n) 8 []) (aK 3)) (bCmp .eq (aAt 1 (aF 13)) (aK 7))) (zSeq (zOpF oAdd 13 (aK 1)) (zAdd 17 (aCall (aM n) 37 []))) zSkip LV (stM ps ((o, base ++ don.map tv), g) j)) K B0 C0) (pb (pStars tk ty M) F ps) := by
  induction N with
  | zero =>
    intro M don ps j LV K B0 C0 B1 F hM
    have : M = 0 := by omega
    subst this
    intros
    exact trivial
  | succ N ih =>
    intro M don ps j LV K B0 C0 B1 F hM hP hj hB hK
    cases M with
    | zero => exact trivial
    | succ M =>
      obtain ⟨ht, hT, hps, ha, ho, hfr, hS⟩ := id hP
      have hA : ALM = 30000 := rfl
      have ec : (bAnd (bCmp .eq (aCall (aM n) 8 []) (aK 3)) (bCmp .eq (aAt 1 (aF 13)) (aK 7))) LV (stM ps ((o, base ++ don.map tv), g) j) = some (some (decide (kAt tk ps.1 = 3 ∧ vAt tk ps.1 = 7)), stM ps ((o, base ++ don.map tv), g) j) := by
        have e3 := mK (LV := LV) (ps := ps) (f := ((o, base ++ don.map tv), g)) n (by omega) ht hT ha 3
        by_cases h3 : kAt tk ps.1 = 3
        · have hlt : ps.1 < Tn tk := k_lt (by rw [h3]; decide)
          rw [bAnd_e e3 (bEq_e (mAt1 ht hT hlt mF13))]
          simp [h3]
        · rw [decide_eq_false h3] at e3
          unfold bAnd
          rw [e3]
          simp [h3]
          rfl
      rw [rn_wh, ec, ab_ok]
      by_cases hc : kAt tk ps.1 = 3 ∧ vAt tk ps.1 = 7
      · have hlt : ps.1 < Tn tk := k_lt (by rw [hc.1]; decide)
        rw [decide_eq_true hc, if_pos rfl, pb_at (p' := pb (pCon tk ty) (fun t => pb (pStars tk ty M) fun ts => pret (t :: ts))) (ps' := (ps.1 + 1, ps.2)) (by simp only [pStars, hc, and_self, if_true]), pb_pb, rn_seq, rn_opF, aK_e, ab_ok, sM_f13, vbin_i, Option.bind_some, vput_i, og_ok, show oAdd (nI ps.1) 1 = nI (ps.1 + 1) from nI_1 _, sM_p13, rn_add, aCall_nil]
        refine ctm_st hcon pgr_grT (by omega) (by omega) (hP.one hlt) hj fun t ps1 j1 g1 hP1 hj1 hB1 => ?_
        dsimp only at hB1
        have hlen : o + (base ++ don.map tv).length < ALM := by simp only [fSm] at hS; omega
        have hl : fSm ((o, base ++ (don ++ [t]).map tv), g) = fSm ((o, base ++ don.map tv), g) + 1 := by simp [fSm]; omega
        rw [ma17 hlen, og_ok, show base ++ don.map tv ++ [tv t] = base ++ (don ++ [t]).map tv by simp, rn_skip, pb_pb]
        have q1' := PG.trans (PG.one hps hlt).e g1
        refine ih M (don ++ [t]) ps1 j1 LV K B0 C0 (B1 - 100) _ (by omega) (hP.nx q1' (hj.l hj1) (by rw [hl]; omega)) hj1 (by omega) fun ts ps'' j'' r1 r3 r4 r5 => ?_
        have := hK (t :: ts) ps'' j'' (PGe.trans q1'.e r1) r3 (by simp; omega) (by simpa using r5)
        simpa [pret_pb] using this
      · rw [decide_eq_false hc, if_neg (by decide), pb_val (v := []) (ps' := ps) (by simp only [pStars, hc, if_false])]
        have := hK [] ps j (PGe.rf hps ha) hj (by simpa using hB) (by simpa using hS)
        simpa using this
/-- one item, or more -/
theorem m_one {o : Nat} {base : List V} {g : Nat × List V} {t : TR} {ts : List TR} (h : o + base.length + ts.length + 1 < 2 ^ 30) (a : Nat) (l2 : LV a = .int (nI (o + base.length))) : bCmp .eq (aSz 17) (aBin oAdd (aL a) (aK 1)) LV (stM ps ((o, base ++ (t :: ts).map tv), g) j) = some (some (decide (ts = [])), stM ps ((o, base ++ (t :: ts).map tv), g) j) := by
  have e1 : ∀ A : AS, aBin oAdd (aL a) (aK 1) LV A = some (some (.int (nI (o + base.length + 1))), A) := by
    intro A
    simp only [d10, eq_self, decide_true, decide_false, ti_b, b2i_t, b2i_f, aK, aL, aF, aSz, aBin, aDiv, aB, aAt, aNd, aArgs, aCall, aIf, bCmp, bZ, bAnd, bOr, bNot, bTT, bIf, ab_ok, ab_no, ab_none, ab_ab, ab_ite, aok_ok, aok_none, og_ok, og_none, vbin_i, vb8_i, vput_i, vI_i, cmp_i, hold_eq, hold_ne, hold_lt, hold_ge, hold_gt, hold_le, b2i_0, ss_b, ss_ite, oAdd, oSub, oMul, Option.bind_some, A0of, va_up, List.length_nil, List.length_cons, List.getD_cons_zero, List.getD_cons_succ, List.getD_nil, if_true, if_false, Bool.not_not, Bool.not_true, Bool.not_false, Bool.false_eq_true, reduceIte, Nat.reduceSub, Nat.reduceAdd, Nat.reduceEqDiff, l2, nI_1]
  unfold bCmp
  rw [aSz_e, ab_ok, e1, ab_ok, sM_R17, sM_o17, cmp_i, hold_eq]
  have : decide (nI (o + (base ++ (t :: ts).map tv).length) = nI (o + base.length + 1)) = decide (ts = []) := by
    rw [decide_eq_decide]
    constructor
    · intro h
      have := nI_inj (by simp; omega) (by omega) h
      simp at this
      exact List.length_eq_zero_iff.mp (by omega)
    · intro h
      subst h
      simp [Nat.add_assoc]
  rw [this]
  rfl
theorem m_product {ty : PA TR} {c : Nat} (hcon : CoM W tv tk c 60 37 [] (pCon tk ty)) : CoM W tv tk (max c 3 + 1) 50 36 [] (pProd tk ty) := by
  intro k ps f j B hk hP hB
  obtain ⟨n, rfl⟩ := suc1 (m := k) (by omega)
  obtain ⟨⟨o, base⟩, g⟩ := f
  obtain ⟨ht, hT, hps, ha, ho, hfr, hS⟩ := id hP
  have hA : ALM = 30000 := rfl
  refine ctm_gT ?_
  rw [eM_product, zM_product, amth_run, List.length_nil, if_pos rfl, fin_ok, run_seq, run_set, aF_e, kS_ok, sM_f13, run_seq, run_set, aSz_e, kS_ok, sM_R17, sM_o17, run_seq, run_add, aCall_nil, kAD_ab]
  refine ctm_st hcon pgr_grT (by omega) (by omega) hP (jfm.rf j) fun t ps1 j1 g1 hP1 hj1 hB1 => ?_
  have hS1 := hP1.2.2.2.2.2.2
  have hlen : o + base.length < ALM := by simp only [fSm] at hS; omega
  have hl : fSm ((o, base ++ [t].map tv), g) = fSm ((o, base), g) + 1 := by simp [fSm]; omega
  rw [ma17 hlen, og_ok, show base ++ [tv t] = base ++ [t].map tv from rfl, run_seq, run_rn]
  have c1 := g1.1
  have c2 := g1.2.1
  refine m_stars hcon (by omega) 99999 LF [t] ps1 j1 _ _ nk nk (j1.nn + 100 * (Tn tk - ps1.1)) _ (by decide) (hP1.mkf (jfm.rf (W := W) j1) (by rw [hl]; omega)) hj1 (Nat.le_refl _) fun ts ps2 j2 g2 hj2 hB2 hS2 => ?_
  rw [List.singleton_append] at hS2 ⊢
  have hil : fSm ((o, base ++ (t :: ts).map tv), g) = o + (base.length + (ts.length + 1)) + g.1 + g.2.length := by simp [fSm]
  rw [hil] at hS2
  rw [run_ret]
  unfold aIf
  rw [m_one (o := o) (base := base) (t := t) (ts := ts) (by omega) 2 rfl, ab_ok]
  unfold pret
  cases ts with
  | nil =>
    rw [if_pos (by decide), if_pos rfl, show base ++ [t].map tv = base ++ [tv t] from rfl, mp17]
    exact ctm_ret hj2 (by simp at hB2; omega)
  | cons u ts =>
    have e47 := m_tuple (m := n) (ps := ps2) (j := j2) (o := o) (base := base) (items := t :: u :: ts) (fk := 52) (k := 51) (p := nI ps.1) (g := g) (by omega) (by decide) (by decide) (by decide) (by simp at hS2 ⊢; omega) (by simp at hS2 ⊢; omega) (by simp at hS2 hB2 ⊢; omega)
    rw [if_neg (by simp), if_neg (by simp)]
    simp only [aCall, aArgs, aK, aL, ab_ok, A0of, va_up, List.length_nil, List.length_cons, List.getD_cons_zero, List.getD_cons_succ, List.getD_nil, if_true, if_false, Bool.not_not, Bool.not_true, Bool.not_false, Bool.false_eq_true, reduceIte, Nat.reduceSub, Nat.reduceAdd, Nat.reduceEqDiff, e47]
    exact ctm_ret (hj2.mk _) (by simp at hB2; simp only [mkN_nn, List.length_cons]; omega)
def avm (l : List (TR × Nat)) : List V := l.flatMap fun q => [.int (nI q.2), tv q.1]
theorem avm_len (l : List (TR × Nat)) : (avm l).length = 2 * l.length := by
  induction l with
  | nil => rfl
  | cons q l ih => simp only [avm, List.flatMap_cons, List.length_append, List.length_cons, List.length_nil] at ih ⊢; omega
theorem avm_snoc (l : List (TR × Nat)) (q : TR × Nat) : avm (l ++ [q]) = avm l ++ [.int (nI q.2)] ++ [tv q.1] := by simp [avm]
theorem m_arrs {ty : PA TR} {c o : Nat} {base : List V} {g : Nat × List V} {w : V} (hpr : CoM W tv tk c 50 36 [] (pProd tk ty)) (hn : max c 3 ≤ n) (N : Nat) : ∀ (M : Nat) (don : List (TR × Nat)) (ps : PS) (j : AS) (LV : AL) (K B0 C0 : KT) (B1 : Nat) (F : List (TR × Nat) → PA α), M ≤ N → PRM tk ps ((o, base ++ avm don), g) j (n + 1) → jfm W j0 j → LV 1 = w → j.nn + 100 * (Tn tk - ps.1) ≤ B1 →
    (∀ ts ps' j' LV', PG tk ps ps' → 1 ≤ ts.length → jfm W j0 j' → j'.nn + 100 * (Tn tk - ps'.1) + 40 * ts.length ≤ B1 → fSm ((o, base ++ avm (don ++ ts)), g) + j'.nn + 8 * (n + 1) + 100 * (Tn tk - ps'.1) ≤ 29000 → LV' 1 = w → CTm W em tk fo j0 B (K LV' (stM ps' ((o, base ++ avm (don ++ ts)), g) j')) (F ts ps')) →
    CTm W em tk fo j0 B (rn (zDo N (zSeq (zAdd 17 (aF 13)) (zAdd 17 (aCall (aM n) 36 []))) (bZ .ne (aCall (aM n) 9 [(aK 47)])) LV (stM ps ((o, base ++ avm don), g) j)) K B0 C0) (pb (pArrs tk ty M) F ps) := by
  induction N with
  | zero =>
    intro M don ps j LV K B0 C0 B1 F hM
    have : M = 0 := by omega
    subst this
    intros
    exact trivial
  | succ N ih =>
    intro M don ps j LV K B0 C0 B1 F hM hP hj hI hB hK
    cases M with
    | zero => exact trivial
    | succ M =>
      obtain ⟨ht, hT, hps, ha, ho, hfr, hS⟩ := id hP
      have hA : ALM = 30000 := rfl
      have hlen : o + (base ++ avm don).length + 1 < ALM := by simp only [fSm] at hS; omega
      have hl0 : fSm ((o, base ++ avm don ++ [.int (nI ps.1)]), g) = fSm ((o, base ++ avm don), g) + 1 := by rw [fSm_push]; rfl
      rw [rn_do, rn_seq, rn_add, aF_e, ab_ok, sM_f13, ma17 (by dsimp only; omega), og_ok, rn_add, aCall_nil]
      rw [pb_at (p := pArrs tk ty (M + 1)) (p' := pb (pProd tk ty) (fun t ps' => if sg tk ps'.1 47 = true then pb (pArrs tk ty M) (fun l => pret ((t, ps.1) :: l)) (ps'.1 + 1, ps'.2) else some (.inl ([(t, ps.1)], ps')))) (ps' := ps) rfl, pb_pb]
      have hct := hpr n ps ((o, base ++ avm don ++ [.int (nI ps.1)]), g) j
      refine ctm_bind (B1 := j.nn + 100 * (Tn tk - ps.1) - 50) hj (hct _ (by omega) ⟨ht, hT, hps, ha, ho, hfr, by rw [hl0]; omega⟩ (by omega)) fun t ps1 j1 hp hj1 hB1 => ?_
      obtain ⟨g1, g2, g3, g4, g5⟩ := pgr_grT ps t ps1 hps hp
      have hgg : PG tk ps ps1 := ⟨g1, g2, g3, g4, g5⟩
      have hl : fSm ((o, base ++ avm (don ++ [(t, ps.1)])), g) = fSm ((o, base ++ avm don), g) + 2 := by rw [avm_snoc, ← List.append_assoc, ← List.append_assoc, fSm_push, hl0]; rfl
      rw [ma17 (by dsimp only; simp at hlen ⊢; omega), og_ok, show base ++ avm don ++ [Term.int (nI ps.1)] ++ [tv t] = base ++ avm (don ++ [(t, ps.1)]) by rw [avm_snoc]; simp]
      have hP1 : PRM tk ps1 ((o, base ++ avm (don ++ [(t, ps.1)])), g) j1 (n + 1) := hP.nx hgg (hj.l hj1) (by rw [hl]; omega)
      rw [m_eatB (by omega) hP1, ab_ok]
      cases hc : sg tk ps1.1 47 with
      | true =>
        have hlt1 : ps1.1 < Tn tk := sg_lt hc
        rw [pb_at (p' := pb (pArrs tk ty M) fun l => pret ((t, ps.1) :: l)) (ps' := (ps1.1 + 1, ps1.2)) (by simp only [hc, if_true]), pb_pb, if_pos rfl, if_pos rfl]
        refine ih M (don ++ [(t, ps.1)]) (ps1.1 + 1, ps1.2) j1 LV K B0 C0 (B1 - 40) _ (by omega) (hP1.one hlt1) hj1 hI (by dsimp only; omega) fun ts ps'' j'' LV'' r1 r2 r3 r4 r5 r6 => ?_
        have := hK ((t, ps.1) :: ts) ps'' j'' LV'' (PG.trans (PGe.trans hgg.e (PG.one hgg.2.2.2.2 hlt1).e) r1) (by simp) r3 (by simp; omega) (by simpa using r5) r6
        simpa [pret_pb] using this
      | false =>
        rw [pb_val (v := [(t, ps.1)]) (ps' := ps1) (by simp only [hc, Bool.false_eq_true, if_false]), if_neg (by decide), if_neg (by decide)]
        exact hK [(t, ps.1)] ps1 j1 LV hgg (by simp) hj1 (by simp; omega) (by rw [hl]; omega) hI
/-- arrows are laid together -/
def arr1 (q : TR × Nat) (r : TR) : TR := (54, tv q.1, tv r, no, nI q.2)
theorem tArr_snoc : ∀ (l : List (TR × Nat)) (q : TR × Nat), tArr (l ++ [q]) = l.foldr arr1 q.1 := by
  intro l
  induction l with
  | nil => intro q; rfl
  | cons x l ih =>
    intro q
    rw [List.foldr_cons, ← ih q]
    cases l with
    | nil => rfl
    | cons y l => rfl
theorem m_arr2 {o : Nat} {base : List V} {g : Nat × List V} (hn : 1 ≤ n) (N : Nat) : ∀ (l : List (TR × Nat)) (acc : TR) (j : AS) (LV : AL) (K B0 C0 : KT), l.length ≤ N → o + base.length + 2 * l.length < 2 ^ 30 → j.nn + l.length ≤ ALM → LV 1 = .int (nI (o + base.length)) → LV 2 = tv acc →
    ∃ LV' : AL, LV' 2 = tv (l.foldr arr1 acc) ∧ rn (zWh (N + 1) (bCmp .gt (aSz 17) (aL 1)) (zSeq (zSet 3 (aPop 17)) (zSet 2 (aCall (aM n) 16 [(aK 54), (aL 3), (aL 2), (aK (-1)), (aPop 17)]))) zSkip LV (stM ps ((o, base ++ avm l), g) j)) K B0 C0 = K LV' (stM ps ((o, base), g) (mkN j l.length)) := by
  have stop : ∀ (N : Nat) (acc : TR) (j : AS) (LV : AL) (K B0 C0 : KT), o + base.length < 2 ^ 30 → LV 1 = .int (nI (o + base.length)) → rn (zWh (N + 1) (bCmp .gt (aSz 17) (aL 1)) (zSeq (zSet 3 (aPop 17)) (zSet 2 (aCall (aM n) 16 [(aK 54), (aL 3), (aL 2), (aK (-1)), (aPop 17)]))) zSkip LV (stM ps ((o, base ++ avm []), g) j)) K B0 C0 = K LV (stM ps ((o, base), g) j) := by
    intro N acc j LV K B0 C0 h1 l1
    have e : decide (nI (o + base.length) < nI (o + base.length)) = false := decide_eq_false (nI_nlt (Nat.le_refl _) (by omega))
    have e0 : base ++ avm [] = base := by simp [avm]
    rw [e0, rn_wh]
    simp only [d10, eq_self, decide_true, decide_false, ti_b, b2i_t, b2i_f, aK, aL, aF, aSz, aBin, aDiv, aB, aAt, aNd, aArgs, aCall, aIf, bCmp, bZ, bAnd, bOr, bNot, bTT, bIf, ab_ok, ab_no, ab_none, ab_ab, ab_ite, aok_ok, aok_none, og_ok, og_none, vbin_i, vb8_i, vput_i, vI_i, cmp_i, hold_eq, hold_ne, hold_lt, hold_ge, hold_gt, hold_le, b2i_0, ss_b, ss_ite, oAdd, oSub, oMul, Option.bind_some, A0of, va_up, List.length_nil, List.length_cons, List.getD_cons_zero, List.getD_cons_succ, List.getD_nil, if_true, if_false, Bool.not_not, Bool.not_true, Bool.not_false, Bool.false_eq_true, reduceIte, Nat.reduceSub, Nat.reduceAdd, Nat.reduceEqDiff, sM_f13, sM_f14, sM_f11, sM_f19, sM_f20, sM_f21, sM_R17, sM_R18, sM_R4, sM_R5, sM_o17, sM_o18, sM_o4, sM_o5, sM_nn, sM_fl, l1, e]
  induction N with
  | zero =>
    intro l acc j LV K B0 C0 h1 h2 h3 l1 l2
    have : l = [] := List.length_eq_zero_iff.mp (by omega)
    subst this
    exact ⟨LV, l2, stop 0 acc j LV K B0 C0 (by simpa using h2) l1⟩
  | succ N ih =>
    intro l acc j LV K B0 C0 h1 h2 h3 l1 l2
    rcases List.eq_nil_or_concat l with hz | ⟨i0, q, rfl⟩
    · subst hz
      exact ⟨LV, l2, stop (N + 1) acc j LV K B0 C0 (by simpa using h2) l1⟩
    · simp only [List.concat_eq_append, List.length_append, List.length_cons, List.length_nil] at *
      have e : decide (nI (o + base.length) < nI (o + (base ++ avm (i0 ++ [q])).length)) = true := by
        apply decide_eq_true
        apply nI_lt
        · rw [List.length_append, avm_len]; simp
        · rw [List.length_append, avm_len]; simp; omega
      have er : base ++ avm (i0 ++ [q]) = base ++ avm i0 ++ [.int (nI q.2)] ++ [tv q.1] := by rw [avm_snoc]; simp
      have emk := m_make (m := n) (ps := ps) (f := ((o, base ++ avm i0), g)) (j := j) (k := 54) (p := nI q.2) (a := tv q.1) (b := tv acc) (c := .int (-1)) hn (by omega) (by decide) rfl rfl rfl
      obtain ⟨LV', r1, r2⟩ := ih i0 (arr1 q acc) (mkN j 1) (va_up (va_up LV 3 (tv q.1)) 2 (tv (arr1 q acc))) K B0 C0 (by omega) (by omega) (by rw [mkN_nn]; omega) (by simpa [va_up] using l1) rfl
      refine ⟨LV', by rw [r1, List.foldr_append]; rfl, ?_⟩
      rw [rn_wh]
      have ec : bCmp .gt (aSz 17) (aL 1) LV (stM ps ((o, base ++ avm (i0 ++ [q])), g) j) = some (some true, stM ps ((o, base ++ avm (i0 ++ [q])), g) j) := by
        simp only [d10, eq_self, decide_true, decide_false, ti_b, b2i_t, b2i_f, aK, aL, aF, aSz, aBin, aDiv, aB, aAt, aNd, aArgs, aCall, aIf, bCmp, bZ, bAnd, bOr, bNot, bTT, bIf, ab_ok, ab_no, ab_none, ab_ab, ab_ite, aok_ok, aok_none, og_ok, og_none, vbin_i, vb8_i, vput_i, vI_i, cmp_i, hold_eq, hold_ne, hold_lt, hold_ge, hold_gt, hold_le, b2i_0, ss_b, ss_ite, oAdd, oSub, oMul, Option.bind_some, A0of, va_up, List.length_nil, List.length_cons, List.getD_cons_zero, List.getD_cons_succ, List.getD_nil, if_true, if_false, Bool.not_not, Bool.not_true, Bool.not_false, Bool.false_eq_true, reduceIte, Nat.reduceSub, Nat.reduceAdd, Nat.reduceEqDiff, sM_f13, sM_f14, sM_f11, sM_f19, sM_f20, sM_f21, sM_R17, sM_R18, sM_R4, sM_R5, sM_o17, sM_o18, sM_o4, sM_o5, sM_nn, sM_fl, l1, e]
      rw [ec, ab_ok, if_pos rfl, er]
      simp only [rn_seq, rn_set, mp17, ab_ok, aCall, aArgs, aK, aL, A0of, va_up, List.length_nil, List.length_cons, List.getD_cons_zero, List.getD_cons_succ, List.getD_nil, if_true, if_false, Bool.not_not, Bool.not_true, Bool.not_false, Bool.false_eq_true, reduceIte, Nat.reduceSub, Nat.reduceAdd, Nat.reduceEqDiff, l2, emk, rn_skip]
      rw [show i0.length + 1 = 1 + i0.length by omega, ← mkN_mkN]
      exact r2
theorem m_type {ty : PA TR} {c : Nat} (hpr : CoM W tv tk c 50 36 [] (pProd tk ty)) : CoM W tv tk (max c 3 + 1) 30 35 [] (grT tk (pb (pArrs tk ty LF) fun l => pret (tArr l))) := by
  intro k ps f j B hk hP hB
  obtain ⟨n, rfl⟩ := suc1 (m := k) (by omega)
  obtain ⟨⟨o, base⟩, g⟩ := f
  obtain ⟨ht, hT, hps, ha, ho, hfr, hS⟩ := id hP
  have hA : ALM = 30000 := rfl
  refine ctm_gT ?_
  rw [eM_type, zM_type, amth_run, List.length_nil, if_pos rfl, fin_ok, run_seq, run_set, aSz_e, kS_ok, sM_R17, sM_o17, run_seq, run_rn]
  have hP' : PRM tk ps ((o, base ++ avm []), g) j (n + 1) := by simpa [avm] using hP
  have := m_arrs (em := tv) (fo := ((o, base), g)) (o := o) (base := base) (g := g) (w := .int (nI (o + base.length))) (j0 := j) (B := B) hpr (by omega) LN LF [] ps j (va_up (A0of true []) 1 (.int (nI (o + base.length)))) (run [zSeq (zSet 2 (aPop 17)) (zSeq (zOpS oSub 17 (aK 1)) (zSeq (zWh LN (bCmp .gt (aSz 17) (aL 1)) (zSeq (zSet 3 (aPop 17)) (zSet 2 (aCall (aM n) 16 [(aK 54), (aL 3), (aL 2), (aK (-1)), (aPop 17)]))) zSkip) (zRet (aL 2))))] nk) nk nk (j.nn + 100 * (Tn tk - ps.1)) (fun l => pret (tArr l)) (by decide) hP' (jfm.rf j) rfl (Nat.le_refl _) fun ts ps' j' LV' r1 r2 r3 r4 r5 r6 => ?_
  · simpa [avm] using this
  · rw [List.nil_append] at r5 ⊢
    rcases List.eq_nil_or_concat ts with hz | ⟨i0, q, rfl⟩
    · subst hz; simp at r2
    · simp only [List.concat_eq_append, List.length_append, List.length_cons, List.length_nil] at *
      have hA : ALM = 30000 := rfl
      have hil : fSm ((o, base ++ avm (i0 ++ [q])), g) = o + (base.length + 2 * (i0.length + 1)) + g.1 + g.2.length := by
        simp only [fSm, List.length_append, avm_len, List.length_cons, List.length_nil]
      rw [hil] at r5
      have er : base ++ avm (i0 ++ [q]) = base ++ avm i0 ++ [.int (nI q.2)] ++ [tv q.1] := by rw [avm_snoc]; simp
      have ez : vsize (stM ps' ((o, base ++ avm i0 ++ [.int (nI q.2)]), g) j') 17 (.int (oSub (nI (o + (base ++ avm i0 ++ [Term.int (nI q.2)]).length)) 1)) = some (stM ps' ((o, base ++ avm i0), g) j') := by
        have e1 : oSub (nI (o + (base ++ avm i0 ++ [Term.int (nI q.2)]).length)) 1 = nI (o + (base ++ avm i0).length) := by
          rw [List.length_append, List.length_singleton, ← Nat.add_assoc]
          exact nI_pred _
        rw [e1, vsize_nI (by simp only [List.length_append, avm_len]; omega) (by simp only [sM_f13, sM_f14, sM_f11, sM_f19, sM_f20, sM_f21, sM_R17, sM_R18, sM_R4, sM_R5, sM_o17, sM_o18, sM_o4, sM_o5, sM_nn, sM_fl]; omega) (by simp only [sM_f13, sM_f14, sM_f11, sM_f19, sM_f20, sM_f21, sM_R17, sM_R18, sM_R4, sM_R5, sM_o17, sM_o18, sM_o4, sM_o5, sM_nn, sM_fl]; simp)]
        simp only [sM_f13, sM_f14, sM_f11, sM_f19, sM_f20, sM_f21, sM_R17, sM_R18, sM_R4, sM_R5, sM_o17, sM_o18, sM_o4, sM_o5, sM_nn, sM_fl, sM_p13, sM_p14, sM_p11, sM_p17, sM_p18, sM_p19, sM_p20, sM_p21, nI_1, nI_pred, Nat.add_sub_cancel_left, List.take_left']
      obtain ⟨L3, q1, q2⟩ := m_arr2 (n := n) (ps := ps') (o := o) (base := base) (g := g) (by omega) 99999 i0 q.1 j' (va_up LV' 2 (tv q.1)) (run [zRet (aL 2)] nk) nk nk (by omega) (by omega) (by omega) (by simpa [va_up] using r6) rfl
      rw [run_seq, run_set, er, mp17, kS_ok, run_seq, run_opS, aK_e, kOS_ok, sM_R17, sM_o17, ez, og_ok, run_seq, run_rn, show LN = 99999 + 1 from rfl, q2, run_ret, aL_e, q1, ← tArr_snoc]
      exact ctm_ret (r3.mk _) (by rw [mkN_nn]; omega)
theorem m_types : ∀ n, CoM W tv tk (10 + 8 * n) 30 35 [] (pTy n tk) := by
  intro n
  induction n with
  | zero => exact fun _ _ _ _ _ _ _ _ => trivial
  | succ n ih =>
    have htg : PGr tk (pTy n tk) := (x_types (W := W) n).2
    have h1 := m_appliedType htg ih
    have h2 := m_product h1
    have h3 := m_type h2
    exact fun k ps f j B hk => h3 k ps f j B (by omega)
end MT2
