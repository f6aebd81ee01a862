/-! M: names; patterns that another sign stands behind -/
section MID
variable {α β : Type} {W : Bool} {em : α → V} {em2 : β → V} {tk : TK} {f f1 f' fo : FM} {j j1 j' j0 : AS} {B B1 : Nat} {r : Option (Option V × AS)} {ps ps' : PS} {m n k k' : Nat} {LV : AL}
/-- what a name is: short, long; and where one stands behind it -/
def idV (tk : TK) (q : Bool) (ps : PS) : PR (Int32 × Int32) :=
  if sg tk ps.1 22 = true then
    (if sg tk (ps.1 + 1) 45 = true then (if q then pflt 6 (ps.1 + 1, ps.2) else some (.inl ((6, -1), (ps.1 + 1 + 1, ps.2))))
     else if nmB tk (ps.1 + 1) = true then some (.inl ((vAt tk (ps.1 + 1), -1), (ps.1 + 1 + 1, ps.2))) else pflt 1 (ps.1 + 1, ps.2))
  else if kAt tk ps.1 = 5 then some (.inl ((-1, vAt tk ps.1), (ps.1 + 1, ps.2)))
  else if nmB tk ps.1 = true then some (.inl ((vAt tk ps.1, -1), (ps.1 + 1, ps.2))) else pflt 1 ps
theorem pIdent_id {q : Bool} {k0 : Int32} (h : idB tk ps = true) : pIdent tk k0 q ps = pb (idV tk q) (fun v => pret (k0, .int v.1, .int v.2, no, nI ps.1)) ps := by
  cases h22 : sg tk ps.1 22 with
  | true =>
    cases h45 : sg tk (ps.1 + 1) 45 with
    | true => cases q <;> simp [pIdent, idV, pb, pret, pflt, h22, h45]
    | false => cases hn : nmB tk (ps.1 + 1) <;> simp [pIdent, idV, pb, pret, pflt, h22, h45, hn]
  | false =>
    by_cases h5 : kAt tk ps.1 = 5
    · simp [pIdent, idV, pb, pret, pflt, h22, h5]
    · unfold idB at h
      rw [h22, decide_eq_false h5, Bool.or_false, Bool.or_false] at h
      have hn := ((Bool.and_eq_true _ _).mp h).1
      have ho := ((Bool.and_eq_true _ _).mp h).2
      rw [Bool.not_eq_true'] at ho
      simp [pIdent, idV, pb, pret, pflt, h22, h5, hn, ho]
def CTi (tk : TK) (f : FM) (j : AS) (r : Option (Option V × AS)) (q : PR (Int32 × Int32)) : Prop := match q with
  | none => True
  | some (.inl (v, ps')) => r = some (some (.int v.1), stM ps' f (apF j 19 v.2))
  | some (.inr e) => ∃ A', r = some (none, A') ∧ THM true j e A'
theorem m_id (hm : 4 ≤ m) (ht : tkOK tk) (hT : TKM tk j) (ha : ps.1 ≤ Tn tk) {q : Bool} : CTi tk f j (aM m 27 [.int (b2i !q)] (stM ps f j)) (idV tk q ps) := by
  obtain ⟨n, rfl⟩ := suc1 (m := m) (by omega)
  have hj19 : ∀ x, jfm true j (apF j 19 x) := fun x => (jfm.rf (W := true) j).p19 x
  have hT2 : ∀ x, TKM tk (apF j 19 x) := fun x => hT.jfm (hj19 x)
  have hflt : ∀ (ps : PS) (x k : Int32), ∃ A', some ((none : Option V), ftM (stM ps f (apF j 19 x)) k) = some (none, A') ∧ THM true j (k, ps.1, ps.2.2.2) A' := fun ps x k => ctm_flt (W := true) (em := fun x : V => x) (tk := tk) (f := f) (B := 0) (hj19 x)
  have hfl6 : ∀ (ps : PS) (x : Int32) (L : AL), aCall (aM n) 11 [(aK 6), (aF 13)] L (stM ps f (apF j 19 x)) = some (none, ftM (stM ps f (apF j 19 x)) 6) := by
    intro ps x L
    rw [aCall_2, aK_e, ab_ok, aF_e, ab_ok, sM_f13, m_fail (by omega)]
    rfl
  have heat := m_eat (m := n) (f := f) (by omega) ht hT ha 22
  have h19 : ∀ (L : AL) (A : AS), aK (-1) L A = some (some (.int (-1)), A) := fun _ _ => rfl
  rw [eM_id, zM_id, amth_run, if_pos (show [Term.int (b2i !q)].length = 1 from rfl), fin_ok, run_seq, run_set, aCall_1, aK_e, ab_ok, heat, kS_ok, run_seq, run_putF, aK_e, kPF_ok, sM_p19]
  unfold idV
  cases h22 : sg tk ps.1 22 with
  | true =>
    have hlt : ps.1 < Tn tk := sg_lt h22
    have ha1 : (ps.1 + 1, ps.2).1 ≤ Tn tk := hlt
    have e1 : ∀ L : AL, L 2 = .int 1 → (bAnd (bNot (bZ .ne (aL 2))) (bCmp .eq (aCall (aM n) 8 []) (aK 5))) L (stM (ps.1 + 1, ps.2) f (apF j 19 (-1))) = some (some false, stM (ps.1 + 1, ps.2) f (apF j 19 (-1))) := by
      intro L h
      unfold bAnd
      rw [bNot_e (x := true) (bZn_e (x := true) (by rw [aL_e, h]; rfl))]
      rfl
    have e2 : ∀ L : AL, L 2 = .int 1 → (bAnd (bZ .ne (aL 2)) (bZ .ne (aCall (aM n) 6 [(aK 45)]))) L (stM (ps.1 + 1, ps.2) f (apF j 19 (-1))) = some (some (sg tk (ps.1 + 1) 45), stM (ps.1 + 1, ps.2) f (apF j 19 (-1))) := by
      intro L h
      rw [bAnd_e (x := true) (bZn_e (x := true) (by rw [aL_e, h]; rfl)) (mS n (by omega) ht (hT2 _) ha1 45), Bool.true_and]
    rw [if_pos rfl, if_pos rfl, run_seq, run_if, e1 _ rfl, kI_f, run_skip, run_seq, run_if, e2 _ rfl]
    cases h45 : sg tk (ps.1 + 1) 45 with
    | true =>
      have hlt2 : ps.1 + 1 < Tn tk := sg_lt h45
      rw [kI_t, if_pos rfl, run_seq, run_if]
      cases q with
      | true =>
        have e3 : ∀ A, (bNot (bZ .ne (aL 1))) (va_up (A0of true [.int (b2i !true)]) 2 (.int (b2i true))) A = some (some true, A) := fun A => rfl
        rw [e3, kI_t, run_ex, hfl6, kE_no, if_pos rfl]
        exact hflt (ps.1 + 1, ps.2) (-1) 6
      | false =>
        have e3 : ∀ A, (bNot (bZ .ne (aL 1))) (va_up (A0of true [.int (b2i !false)]) 2 (.int (b2i true))) A = some (some false, A) := fun A => rfl
        rw [e3, kI_f, run_skip, run_seq, run_opF, aK_e, kOF_ok, sM_f13, show oAdd (nI (ps.1 + 1)) 1 = nI (ps.1 + 1 + 1) from nI_1 _, sM_p13, run_ret, aK_e, if_neg (by decide)]
        rfl
    | false =>
      rw [kI_f, run_skip, if_neg (by decide), run_seq, run_if, bNot_e (mN n (by omega) ht (hT2 _) ha1)]
      cases hn : nmB tk (ps.1 + 1) with
      | false =>
        rw [Bool.not_false, kI_t, run_ex, aCall_nil, m_stop (by omega), kE_no, if_neg (by decide)]
        exact hflt (ps.1 + 1, ps.2) (-1) 1
      | true =>
        obtain ⟨hlt2, _⟩ := nm_val ht hn
        have e4 : ∀ L : AL, aBin oSub (aF 13) (aK 1) L (stM (ps.1 + 1 + 1, ps.2) f (apF j 19 (-1))) = some (some (.int (nI (ps.1 + 1))), stM (ps.1 + 1 + 1, ps.2) f (apF j 19 (-1))) := by
          intro L
          simp only [d10, eq_self, decide_true, decide_false, ti_b, b2i_t, b2i_f, aK, aL, aF, aSz, aBin, aDiv, aB, aAt, aNd, aArgs, aCall, aIf, bCmp, bZ, bAnd, bOr, bNot, bTT, bIf, ab_ok, ab_no, ab_none, ab_ab, ab_ite, aok_ok, aok_none, og_ok, og_none, vbin_i, vb8_i, vput_i, vI_i, cmp_i, hold_eq, hold_ne, hold_lt, hold_ge, hold_gt, hold_le, b2i_0, ss_b, ss_ite, oAdd, oSub, oMul, Option.bind_some, A0of, va_up, List.length_nil, List.length_cons, List.getD_cons_zero, List.getD_cons_succ, List.getD_nil, if_true, if_false, Bool.not_not, Bool.not_true, Bool.not_false, Bool.false_eq_true, reduceIte, Nat.reduceSub, Nat.reduceAdd, Nat.reduceEqDiff, sM_f13, sM_f14, sM_f11, sM_f19, sM_f20, sM_f21, sM_R17, sM_R18, sM_R4, sM_R5, sM_o17, sM_o18, sM_o4, sM_o5, sM_nn, sM_fl, nI_pred]
        rw [Bool.not_true, kI_f, run_skip, run_seq, run_opF, aK_e, kOF_ok, sM_f13, show oAdd (nI (ps.1 + 1)) 1 = nI (ps.1 + 1 + 1) from nI_1 _, sM_p13, run_ret, mAt1 ht (hT2 _) hlt2 (e4 _), if_pos rfl]
        rfl
  | false =>
    have e1 : ∀ L : AL, L 2 = .int 0 → (bAnd (bNot (bZ .ne (aL 2))) (bCmp .eq (aCall (aM n) 8 []) (aK 5))) L (stM ps f (apF j 19 (-1))) = some (some (decide (kAt tk ps.1 = 5)), stM ps f (apF j 19 (-1))) := by
      intro L h
      rw [bAnd_e (x := true) (bNot_e (x := false) (bZn_e (x := false) (by rw [aL_e, h]; rfl))) (mK n (by omega) ht (hT2 _) ha 5), Bool.true_and]
    rw [if_neg (by decide), if_neg (by decide), run_seq, run_if, e1 _ rfl]
    by_cases h5 : kAt tk ps.1 = 5
    · have hlt : ps.1 < Tn tk := k_lt (by rw [h5]; decide)
      rw [decide_eq_true h5, kI_t, if_pos h5, run_seq, run_putF, mAt1 ht (hT2 _) hlt mF13, kPF_ok, sM_p19, run_seq, run_opF, aK_e, kOF_ok, sM_f13, show oAdd (nI ps.1) 1 = nI (ps.1 + 1) from nI_1 _, sM_p13, run_ret, aK_e]
      have : apF (apF j 19 (-1)) 19 (vAt tk ps.1) = apF j 19 (vAt tk ps.1) := by
        unfold apF
        refine Prod.ext (funext fun k => ?_) rfl
        show va_up (va_up j.1 19 _) 19 _ k = va_up j.1 19 _ k
        unfold va_up
        by_cases h : k = 19 <;> simp [h]
      rw [this]
      rfl
    · have e2 : ∀ L : AL, L 2 = .int 0 → (bAnd (bZ .ne (aL 2)) (bZ .ne (aCall (aM n) 6 [(aK 45)]))) L (stM ps f (apF j 19 (-1))) = some (some false, stM ps f (apF j 19 (-1))) := by
        intro L h
        unfold bAnd
        rw [bZn_e (x := false) (by rw [aL_e, h]; rfl)]
        rfl
      rw [decide_eq_false h5, kI_f, run_skip, if_neg h5, run_seq, run_if, e2 _ rfl, kI_f, run_skip, run_seq, run_if, bNot_e (mN n (by omega) ht (hT2 _) ha)]
      cases hn : nmB tk ps.1 with
      | false =>
        rw [Bool.not_false, kI_t, run_ex, aCall_nil, m_stop (by omega), kE_no, if_neg (by decide)]
        exact hflt ps (-1) 1
      | true =>
        obtain ⟨hlt, _⟩ := nm_val ht hn
        have e4 : ∀ L : AL, aBin oSub (aF 13) (aK 1) L (stM (ps.1 + 1, ps.2) f (apF j 19 (-1))) = some (some (.int (nI ps.1)), stM (ps.1 + 1, ps.2) f (apF j 19 (-1))) := by
          intro L
          simp only [d10, eq_self, decide_true, decide_false, ti_b, b2i_t, b2i_f, aK, aL, aF, aSz, aBin, aDiv, aB, aAt, aNd, aArgs, aCall, aIf, bCmp, bZ, bAnd, bOr, bNot, bTT, bIf, ab_ok, ab_no, ab_none, ab_ab, ab_ite, aok_ok, aok_none, og_ok, og_none, vbin_i, vb8_i, vput_i, vI_i, cmp_i, hold_eq, hold_ne, hold_lt, hold_ge, hold_gt, hold_le, b2i_0, ss_b, ss_ite, oAdd, oSub, oMul, Option.bind_some, A0of, va_up, List.length_nil, List.length_cons, List.getD_cons_zero, List.getD_cons_succ, List.getD_nil, if_true, if_false, Bool.not_not, Bool.not_true, Bool.not_false, Bool.false_eq_true, reduceIte, Nat.reduceSub, Nat.reduceAdd, Nat.reduceEqDiff, sM_f13, sM_f14, sM_f11, sM_f19, sM_f20, sM_f21, sM_R17, sM_R18, sM_R4, sM_R5, sM_o17, sM_o18, sM_o4, sM_o5, sM_nn, sM_fl, nI_pred]
        rw [Bool.not_true, kI_f, run_skip, run_seq, run_opF, aK_e, kOF_ok, sM_f13, show oAdd (nI ps.1) 1 = nI (ps.1 + 1) from nI_1 _, sM_p13, run_ret, mAt1 ht (hT2 _) hlt (e4 _), if_pos rfl]
        rfl
/-- behind a name -/
theorem ctm_id {q : Bool} {F : Int32 × Int32 → PA β} {g : V → AS → Option (Option V × AS)} (hm : 4 ≤ m) (hP : PRM tk ps f j k) (hj : jfm W j0 j)
    (h : ∀ v a, idV tk q ps = some (.inl (v, (a, ps.2))) → ps.1 < a → a ≤ Tn tk → v.1 ≤ 8191 → jfm W j0 (apF j 19 v.2) → TKM tk (apF j 19 v.2) → CTm W em2 tk fo j0 B (g (.int v.1) (stM (a, ps.2) f (apF j 19 v.2))) (F v (a, ps.2))) : CTm W em2 tk fo j0 B (ab (aM m 27 [.int (b2i !q)] (stM ps f j)) g) (pb (idV tk q) F ps) := by
  have hid := m_id (f := f) hm hP.1 hP.2.1 hP.2.2.2.1 (q := q)
  unfold pb
  cases hp : idV tk q ps with
  | none => exact trivial
  | some z =>
    rw [hp] at hid
    match z, hp, hid with
    | .inr e, _, hid =>
      obtain ⟨A', e1, q1⟩ := hid
      rw [e1]
      obtain ⟨t1, t2, t3, t4⟩ := q1
      refine ⟨A', rfl, THM.l hj ⟨t1, t2, fun k h1 h2 h3 h4 h5 h6 hw => t3 k h1 h2 h3 h4 h5 h6 (fun _ => rfl), t4⟩⟩
    | .inl (v, ps'), hp, hid =>
      have hid : aM m 27 [.int (b2i !q)] (stM ps f j) = some (some (.int v.1), stM ps' f (apF j 19 v.2)) := hid
      rw [hid, ab_ok]
      have facts : ps.1 < ps'.1 ∧ ps'.1 ≤ Tn tk ∧ ps'.2 = ps.2 ∧ v.1 ≤ 8191 := by
        unfold idV at hp
        split at hp
        · next h22 =>
          split at hp
          · next h45 =>
            split at hp
            · cases hp
            · cases hp
              have := sg_lt h45
              exact ⟨by dsimp only; omega, this, rfl, by decide⟩
          · split at hp
            · next hn =>
              cases hp
              obtain ⟨h1, h2, h3⟩ := nm_val hP.1 hn
              exact ⟨by dsimp only; omega, h1, rfl, h3⟩
            · cases hp
        · split at hp
          · next h5 =>
            cases hp
            have h1 : ps.1 < Tn tk := k_lt (by rw [h5]; decide)
            exact ⟨Nat.lt_succ_self _, h1, rfl, show (-1 : Int32) ≤ 8191 by decide⟩
          · split at hp
            · next hn =>
              cases hp
              obtain ⟨h1, h2, h3⟩ := nm_val hP.1 hn
              exact ⟨Nat.lt_succ_self _, h1, rfl, h3⟩
            · cases hp
      obtain ⟨g1, g2, g3, g4⟩ := facts
      obtain ⟨a, s2⟩ := ps'
      dsimp only at g1 g2 g3
      subst g3
      have hjj : jfm W j0 (apF j 19 v.2) := hj.p19 v.2
      exact h v a hp g1 g2 g4 hjj (hP.2.1.jfm ((jfm.rf (W := true) j).p19 v.2))
/-- a pattern behind which a sign may stand that does not belong there -/
def CTp (W : Bool) (tk : TK) (f : FM) (j : AS) (B a : Nat) (r : Option (Option V × AS)) (q : PR TR) : Prop := match q with
  | none => True
  | some (.inl (v, ps')) => ∃ j', r = some (some (tv v), stM ps' f j') ∧ jfm W j j' ∧ j'.nn + 100 * (Tn tk - ps'.1) ≤ B
  | some (.inr e) => (∃ A', r = some (none, A') ∧ THM W j e A') ∨ ∃ v ps' j', r = some (some (tv v), stM ps' f j') ∧ jfm W j j' ∧ sg tk ps'.1 4 = true ∧ a ≤ ps'.1 ∧ e = (1, ps'.1, ps'.2.2.2) ∧ j'.nn + 100 * (Tn tk - ps'.1) ≤ B
theorem ctp_of {q : PR TR} {a : Nat} (h : CTm W tv tk f j B r q) : CTp W tk f j B a r q := by
  match q, h with
  | none, _ => exact trivial
  | some (.inr e), h => exact Or.inl h
  | some (.inl (v, ps')), h => exact h
theorem ctp_gT {p : PA TR} {a : Nat} (h : CTp W tk f j B a r (p ps)) : CTp W tk f j B a r (grT tk p ps) := by
  unfold grT
  cases hp : p ps with
  | none => exact trivial
  | some q =>
    rw [hp] at h
    match q, h with
    | .inr e, h => dsimp only; split <;> first | exact h | exact trivial
    | .inl (v, ps'), h => dsimp only; split <;> first | exact h | exact trivial
def CoP (W : Bool) (tk : TK) (c s t : Nat) (vs : List V) (p : PA TR) : Prop := ∀ k ps f j B, c ≤ k → PRM tk ps f j k → j.nn + 100 * (Tn tk - ps.1) ≤ B + s → CTp W tk f j B ps.1 (aM k t vs (stM ps f j)) (p ps)
theorem ctm_stP {c s t : Nat} {vs : List V} {p : PA TR} {F : TR → PA β} {g : V → AS → Option (Option V × AS)} (hc : CoP W tk c s t vs p) (hg : PGr tk p) (hs : s ≤ 100) (hn : c ≤ n) (hP : PRM tk ps f j (n + 1)) (hj : jfm W j0 j)
    (h : ∀ v ps' j', PG tk ps ps' → PRM tk ps' f j' (n + 1) → jfm W j0 j' → j'.nn + 100 * (Tn tk - ps'.1) + s ≤ j.nn + 100 * (Tn tk - ps.1) → CTm W em2 tk fo j0 B (g (tv v) (stM ps' f j')) (F v ps'))
    (hb : ∀ v ps' j', ps'.1 ≤ Tn tk → TKM tk j' → jfm W j0 j' → sg tk ps'.1 4 = true → j'.nn + 100 * (Tn tk - ps'.1) + s ≤ j.nn + 100 * (Tn tk - ps.1) → CTm W em2 tk fo j0 B (g (tv v) (stM ps' f j')) (pflt 1 ps')) : CTm W em2 tk fo j0 B (ab (aM n t vs (stM ps f j)) g) (pb p F ps) := by
  have hS := hP.2.2.2.2.2.2
  have hct := hc n ps f j (j.nn + 100 * (Tn tk - ps.1) - s) hn hP.dn (by omega)
  unfold pb
  cases hp : p ps with
  | none => exact trivial
  | some q =>
    rw [hp] at hct
    match q, hp, hct with
    | .inr e, _, .inl ⟨A', e1, q1⟩ =>
      rw [e1]
      exact ⟨A', rfl, q1.l hj⟩
    | .inr e, _, .inr ⟨v, ps', j', e1, q1, q2, q5, q3, q4⟩ =>
      rw [e1, ab_ok]
      subst q3
      exact hb v ps' j' (Nat.le_of_lt (sg_lt q2)) (hP.2.1.jfm q1) (hj.trans q1) q2 (by have := sg_lt q2; have : Tn tk = tk.1.length := rfl; omega)
    | .inl (v, ps'), hp, hct =>
      obtain ⟨j', e1, q1, q2⟩ := hct
      rw [e1, ab_ok]
      have hpg := hg ps v ps' hP.2.2.1 hp
      obtain ⟨h1, h2, h3, h4, h5⟩ := id hpg
      exact h v ps' j' hpg (hP.nx hpg q1 (by omega)) (hj.trans q1) (by omega)
theorem sg_ne {i : Nat} {s s' : Int32} (h : sg tk i s = true) (hs : ¬ s = s') : sg tk i s' = false := by
  unfold sg at h ⊢
  simp only [Bool.and_eq_true, decide_eq_true_eq] at h
  rw [h.2, decide_eq_false hs, Bool.and_false]
/-- a sign that has to stand there, does not -/
theorem m_needF (hm : 3 ≤ m) (ht : tkOK tk) (hT : TKM tk j) (h : sg tk ps.1 4 = true) {s : Int32} (hs : ¬ (4 : Int32) = s) : aM m 33 [.int s] (stM ps f j) = some (none, ftM (stM ps f j) 1) := by
  rw [m_need hm ht hT (Nat.le_of_lt (sg_lt h)), sg_ne h hs, if_neg (by decide)]
end MID
