/-! M: functions -/
section MFU
variable {α β : Type} {em : α → V} {em2 : β → V} {tk : TK} {f f1 f' fo : FM} {j1 j' j0 : AS} {a : Nat} {r : Option (Option V × AS)} {ps' : PS} {m n k k' : Nat} {zs : List ZX} {ty aq ap E : PA TR} {c b o : Nat} {gg : Nat × List V}
theorem m_cls {base : List V} (htg : PGr tk ty) (hty : CoM true tv tk c 30 35 [] ty) (haq : CoM true tv tk c 60 25 [] aq) (hqa : PGt tk aq) (hff : ∀ ps e, aq ps = some (.inr e) → e.2.2 = ps.2.2.2) (hno : ∀ ps, begP tk ps = false → aq ps = pflt 1 ps)
    (htf : ∀ ps e, sg tk ps.1 33 = true → pTry tk aq ps = some (.inr e) → FN e (ap ps)) (hap : CoM true tv tk c 60 25 [] ap) (hq : PGt tk ap) (hEg : PGr tk E) (hE : CoM false tv tk c 30 12 [] E) (hn : max c 5 + 4 ≤ n) (N : Nat) :
    ∀ (M : Nat) (nm : Option (Int32 × Nat)) (don : List TR) (ps : PS) (j : AS) (LV : AL) (K B0 C0 : KT) (B1 B : Nat) (F : (Int32 × Nat) × List TR → PA β), M ≤ N → PRM tk ps ((o, base ++ don.map tv), gg) j (n + 1) → jfm false j0 j → nmOK nm → (∀ q, nm = some q → j.1 20 = q.1 ∧ j.1 21 = nI q.2) → LV 6 = .int (b2i nm.isNone) → j.nn + 100 * (Tn tk - ps.1) ≤ B1 →
    (∀ r ps' j' LV', PG tk ps ps' → 1 ≤ r.2.length → r.1.2 ≤ 600 → 0 ≤ r.1.1 ∧ r.1.1 ≤ 8191 → jfm false j0 j' → j'.1 20 = r.1.1 → j'.1 21 = nI r.1.2 → j'.nn + 100 * (Tn tk - ps'.1) + 80 * r.2.length + 40 * r.1.2 ≤ B1 → fSm ((o, base ++ (don ++ r.2).map tv), gg) + j'.nn + 8 * (n + 1) + 100 * (Tn tk - ps'.1) + 40 * r.1.2 ≤ 29000 → (∀ k, k ≠ 6 → LV' k = LV k) → CTm false em2 tk fo j0 B (K LV' (stM ps' ((o, base ++ (don ++ r.2).map tv), gg) j')) (F r ps')) →
    CTm false em2 tk fo j0 B (rn (zDo N (zSeq (zAdd 17 (aCall (aM n) 72 [(aL 6)])) (zSet 6 (aK 0))) (bZ .ne (aCall (aM n) 9 [(aK 44)])) LV (stM ps ((o, base ++ don.map tv), gg) j)) K B0 C0) (pb (pCls tk ty aq ap E M nm) F ps) := by
  induction N with
  | zero =>
    intro M nm don ps j LV K B0 C0 B1 B F hM
    have : M = 0 := by omega
    subst this
    intros
    exact trivial
  | succ N ih =>
    intro M nm don ps j LV K B0 C0 B1 B F hM hP hj hnm h20 l6 hB hK
    cases M with
    | zero => exact trivial
    | succ M =>
      have hS := hP.2.2.2.2.2.2
      have hA : ALM = 30000 := rfl
      rw [rn_do, rn_seq, rn_add, aCall_1, aL_e, l6, ab_ok, cls_eq, pb_pb]
      refine m_clause htg hty haq hqa hff hno htf hap hq hEg hE hn hP hj hnm h20 fun r ps' j' q1 q2 q3 q4 q5 q6 q7 => ?_
      have hlen : o + (base ++ don.map tv).length < ALM := by simp only [fSm] at hS; omega
      have hl : fSm ((o, base ++ (don ++ [r.2]).map tv), gg) = fSm ((o, base ++ don.map tv), gg) + 1 := by simp [fSm]; omega
      rw [ma17 hlen, og_ok, show base ++ don.map tv ++ [tv r.2] = base ++ (don ++ [r.2]).map tv by simp, rn_set, aK_e, ab_ok]
      have hP1 : PRM tk ps' ((o, base ++ (don ++ [r.2]).map tv), gg) j' (n + 1) := hP.nx q1 (hj.l q2) (by rw [hl]; omega)
      rw [m_eatB (by omega) hP1, ab_ok]
      cases hc : sg tk ps'.1 44 with
      | true =>
        have hlt : ps'.1 < Tn tk := sg_lt hc
        rw [pb_at (p' := pb (pCls tk ty aq ap E M (some r.1)) fun q => pret (q.1, r.2 :: q.2)) (ps' := (ps'.1 + 1, ps'.2)) (by simp only [hc, if_true]), pb_pb, if_pos rfl, if_pos rfl]
        refine ih M (some r.1) (don ++ [r.2]) (ps'.1 + 1, ps'.2) j' _ K B0 C0 (B1 - 80) B _ (by omega) (hP1.one hlt) q2 (fun q hq => by cases hq; exact ⟨q5.1, by omega⟩) (fun q hq => by cases hq; exact ⟨q3, q4⟩) rfl (by dsimp only; omega) fun r' ps'' j'' LV'' r1 r2 r3 r4 r5 r6 r7 r8 r9 r10 => ?_
        have := hK (r'.1, r.2 :: r'.2) ps'' j'' LV'' (PG.trans (PGe.trans q1.e (PG.one q1.2.2.2.2 hlt).e) r1) (by simp) r3 r4 r5 r6 r7 (by rw [List.length_cons]; dsimp only; omega) (by simpa using r9) (fun k hk => (r10 k hk).trans (va_up_ne _ _ hk))
        simpa [pret_pb] using this
      | false =>
        rw [pb_val (v := (r.1, [r.2])) (ps' := ps') (by simp only [hc, Bool.false_eq_true, if_false]), if_neg (by decide), if_neg (by decide)]
        exact hK (r.1, [r.2]) ps' j' _ q1 (by simp) q6 q5 q2 q3 q4 (by simp only [List.length_cons, List.length_nil]; omega) (by rw [hl]; dsimp only; omega) (fun k hk => va_up_ne _ _ hk)
theorem m_funB {base : List V} {w1 w2 w3 : V} (htg : PGr tk ty) (hty : CoM true tv tk c 30 35 [] ty) (haq : CoM true tv tk c 60 25 [] aq) (hqa : PGt tk aq) (hff : ∀ ps e, aq ps = some (.inr e) → e.2.2 = ps.2.2.2) (hno : ∀ ps, begP tk ps = false → aq ps = pflt 1 ps)
    (htf : ∀ ps e, sg tk ps.1 33 = true → pTry tk aq ps = some (.inr e) → FN e (ap ps)) (hap : CoM true tv tk c 60 25 [] ap) (hq : PGt tk ap) (hEg : PGr tk E) (hE : CoM false tv tk c 30 12 [] E) (hn : max c 5 + 4 ≤ n) :
    BodyD false tk n o base gg (grE tk (pClau tk ty aq ap E)) (fun L => L 1 = w1 ∧ L 2 = w2 ∧ L 3 = w3) 60 (zSeq (zSet 4 (aF 13)) (zSeq (zSet 5 (aSz 17)) (zSeq (zSet 6 (aK 1)) (zSeq (zDo LN (zSeq (zAdd 17 (aCall (aM n) 72 [(aL 6)])) (zSet 6 (aK 0))) (bZ .ne (aCall (aM n) 9 [(aK 44)]))) (zAdd 17 (aCall (aM n) 77 [(aL 5), (aL 4)])))))) := by
  intro α em fo F don ps j j0 LV K B0 C0 B hP hj hI hK
  obtain ⟨i1, i2, i3⟩ := hI
  refine ctm_pbE (F' := fun v ps' => @ite _ (PG tk ps ps') (Classical.propDecidable _) (F v ps') none) (fun v ps' h => if_pos h) (fun v ps' h => if_neg h) ?_
  have hK' : ∀ t ps' j' LV', jfm false j0 j' → j'.nn + 100 * (Tn tk - ps'.1) + 60 ≤ j.nn + 100 * (Tn tk - ps.1) → (LV' 1 = w1 ∧ LV' 2 = w2 ∧ LV' 3 = w3) → CTm false em tk fo j0 B (K LV' (stM ps' ((o, base ++ (don ++ [t]).map tv), gg) j')) ((fun v ps' => @ite _ (PG tk ps ps') (Classical.propDecidable _) (F v ps') none) t ps') := by
    intro t ps' j' LV' h1 h2 h3
    by_cases h : PG tk ps ps'
    · simp only [h, if_true]
      exact hK t ps' j' LV' h h1 h2 h3
    · simp only [h, if_false]
      exact trivial
  generalize (fun v ps' => @ite _ (PG tk ps ps') (Classical.propDecidable _) (F v ps') none) = F' at hK' ⊢
  obtain ⟨ht, hT, hps, ha, hop, hfr, hS⟩ := id hP
  have hA : ALM = 30000 := rfl
  rw [rn_seq, rn_set, aF_e, ab_ok, sM_f13, rn_seq, rn_set, aSz_e, ab_ok, sM_R17, sM_o17, rn_seq, rn_set, aK_e, ab_ok, rn_seq]
  rw [pb_at (p := pClau tk ty aq ap E) (p' := pb (pCls tk ty aq ap E LF none) (fun r ps2 => some (.inl ((71, tv (tVar r.1.1 (nI ps.1)), tv (tCur (tLi r.2) r.1.2 ps2.2.2.1 (nI ps.1)), .int 1, nI ps.1), (ps2.1, ps2.2.1, ps2.2.2.1 + r.1.2, ps2.2.2.2))))) (ps' := ps) rfl, pb_pb]
  have hP' : PRM tk ps ((o, (base ++ don.map tv) ++ ([] : List TR).map tv), gg) j (n + 1) := by simpa using hP
  have := m_cls (em2 := em) (fo := fo) (j0 := j0) (o := o) (gg := gg) (base := base ++ don.map tv) htg hty haq hqa hff hno htf hap hq hEg hE hn LN LF none [] ps j (va_up (va_up (va_up LV 4 (.int (nI ps.1))) 5 (.int (nI (o + (base ++ don.map tv).length)))) 6 (.int 1)) (fun L A => rn (zAdd 17 (aCall (aM n) 77 [(aL 5), (aL 4)]) L A) K B0 C0) B0 C0 (j.nn + 100 * (Tn tk - ps.1)) B (fun r => pb (fun ps2 => some (.inl ((71, tv (tVar r.1.1 (nI ps.1)), tv (tCur (tLi r.2) r.1.2 ps2.2.2.1 (nI ps.1)), .int 1, nI ps.1), (ps2.1, ps2.2.1, ps2.2.2.1 + r.1.2, ps2.2.2.2)))) F') (by decide) hP' hj (fun q hq => by cases hq) (fun q hq => by cases hq) rfl (Nat.le_refl _) fun r ps' j' LV' q1 q2 q3 q4 q5 q6 q7 q8 q9 q10 => ?_
  · simpa using this
  · rw [List.nil_append] at q9 ⊢
    rw [fSm_push, List.length_map] at q9
    have hil : fSm ((o, base ++ don.map tv), gg) = o + (base ++ don.map tv).length + gg.1 + gg.2.length := rfl
    rw [hil] at q9
    have hfr' := q1.2.2.2.1
    obtain ⟨cc, k1, k2⟩ := m_nest (m := n) (ps := ps') (j := j') (o := o) (many := r.1.2) (base := base ++ don.map tv) (l := r.2) (g := gg) (nm := r.1.1) (p := nI ps.1) (by omega) q6 q7 q4.2 (by omega) (by omega) (by omega) (by omega) (by omega)
    rw [rn_add, aCall_2, aL_e, ab_ok, aL_e, ab_ok, q10 5 (by decide), q10 4 (by decide), show ∀ x y z : V, va_up (va_up (va_up LV 4 x) 5 y) 6 z 5 = y from fun _ _ _ => rfl, show ∀ x y z : V, va_up (va_up (va_up LV 4 x) 5 y) 6 z 4 = x from fun _ _ _ => rfl, k2, ab_ok, ma17 (by dsimp only; omega), og_ok]
    rw [pb_val (v := (71, tv (tVar r.1.1 (nI ps.1)), tv (tCur (tLi r.2) r.1.2 ps'.2.2.1 (nI ps.1)), .int 1, nI ps.1)) (ps' := (ps'.1, ps'.2.1, ps'.2.2.1 + r.1.2, ps'.2.2.2)) rfl]
    have := hK' (71, tv (tVar r.1.1 (nI ps.1)), tv (tCur (tLi r.2) r.1.2 ps'.2.2.1 (nI ps.1)), .int 1, nI ps.1) (ps'.1, ps'.2.1, ps'.2.2.1 + r.1.2, ps'.2.2.2) (mkN j' cc) LV' (q5.mk _) (by rw [mkN_nn]; dsimp only; omega) ⟨(q10 1 (by decide)).trans i1, (q10 2 (by decide)).trans i2, (q10 3 (by decide)).trans i3⟩
    simpa using this
theorem m_fun (htg : PGr tk ty) (hty : CoM true tv tk c 30 35 [] ty) (haq : CoM true tv tk c 60 25 [] aq) (hqa : PGt tk aq) (hff : ∀ ps e, aq ps = some (.inr e) → e.2.2 = ps.2.2.2) (hno : ∀ ps, begP tk ps = false → aq ps = pflt 1 ps)
    (htf : ∀ ps e, sg tk ps.1 33 = true → pTry tk aq ps = some (.inr e) → FN e (ap ps)) (hap : CoM true tv tk c 60 25 [] ap) (hq : PGt tk ap) (hEg : PGr tk E) (hE : CoM false tv tk c 30 12 [] E) : CoM false tv tk (max c 5 + 5) 50 71 [.int (nI b)] (pFun tk ty aq ap E b) := by
  intro k ps f j B hk hP hB
  obtain ⟨n, rfl⟩ := suc1 (m := k) (by omega)
  obtain ⟨⟨o, base⟩, g⟩ := f
  obtain ⟨ht, hT, hps, ha, hop, hfr, hS⟩ := id hP
  have hA : ALM = 30000 := rfl
  have hil0 : fSm ((o, base), g) = o + base.length + g.1 + g.2.length := rfl
  unfold pFun
  rw [eM_fun, zM_fun, amth_run, if_pos (show [Term.int (nI b)].length = 1 from rfl), fin_ok, run_seq, run_set, aCall_1, aK_e, ab_ok, kS_ab]
  refine ctm_ste (m_typeVariables (q := true)) pgh_grD (by omega) hP (jfm.rf j) fun vs ps1 j1 g1 hP1 hj1 hB1 => ?_
  rw [run_seq, run_set, aSz_e, kS_ok, sM_R17, sM_o17, run_seq, run_rn]
  have hP1' : PRM tk ps1 ((o, base ++ ([] : List TR).map tv), g) j1 (n + 1) := by simpa using hP1
  have := m_more (em := tv) (fo := ((o, base), g)) (W := false) (s := 2) (n := n) (o := o) (base := base) (g := g) (by omega) (by omega) (by omega) (m_funB (w1 := .int (nI b)) (w2 := tLi vs) (w3 := .int (nI (o + base.length))) htg hty haq hqa hff hno htf hap hq hEg hE (by omega)) LN LF [] ps1 j1 j (va_up (va_up (A0of true [.int (nI b)]) 2 (tLi vs)) 3 (.int (nI (o + base.length)))) (run [zRet (aCall (aM n) 16 [(aK 70), (aL 2), (aCall (aM n) 42 [(aL 3)]), (aK (-1)), (aL 1)])] nk) nk nk (j1.nn + 100 * (Tn tk - ps1.1)) B (fun l => pret (70, tLi vs, tLi l, no, nI b)) (by decide) hP1' hj1 ⟨rfl, rfl, rfl⟩ (Nat.le_refl _) fun ts ps' j' LV' r1 r2 r3 r4 r5 r6 => ?_
  · simpa using this
  · obtain ⟨r6, r7, r8⟩ := r6
    rw [List.nil_append, fSm_push, List.length_map, hil0] at r5
    rw [List.nil_append]
    have el := m_list (m := n) (ps := ps') (j := j') (by omega) (o := o) (base := base) (items := ts) (g := g) (by omega) (by omega) (by omega)
    have emk := m_make (m := n) (ps := ps') (f := ((o, base), g)) (j := mkN j' ts.length) (k := 70) (p := nI b) (a := tLi vs) (b := tLi ts) (c := .int (-1)) (by omega) (by rw [mkN_nn]; omega) (by decide) (okLi vs) (okLi ts) rfl
    rw [run_ret]
    simp only [aCall_5, aCall_1, aK_e, aL_e, ab_ok, r6, r7, r8, el, emk]
    exact ctm_ret (v := (70, tLi vs, tLi ts, no, nI b)) ((r3.mk _).mk _) (by simp only [mkN_nn]; omega)
end MFU
