/-! M: operators -/
def ovm (l : ODS) : List V := l.reverse.flatMap fun q => [.int (nI q.2), tv q.1]
def opm (l : OPS) : List V := l.reverse.flatMap fun o => [.int o.1, .int (o.2.2 - 1), .int (nI o.2.1)]
theorem ovm_cons (q : TR × Nat) (l : ODS) : ovm (q :: l) = ovm l ++ [.int (nI q.2)] ++ [tv q.1] := by simp [ovm]
theorem opm_cons (o : Int32 × Nat × Int32) (l : OPS) : opm (o :: l) = opm l ++ [.int o.1] ++ [.int (o.2.2 - 1)] ++ [.int (nI o.2.1)] := by simp [opm]
theorem ovm_len (l : ODS) : (ovm l).length = 2 * l.length := by
  induction l with
  | nil => rfl
  | cons q l ih => rw [ovm_cons]; simp [ih]; omega
theorem opm_len (l : OPS) : (opm l).length = 3 * l.length := by
  induction l with
  | nil => rfl
  | cons q l ih => rw [opm_cons]; simp [ih]; omega
/-- how tightly it binds -/
def prc (f : Int32) : Int32 := (f - 1) / 2
/-- two that don't go together are met -/
def chk (f : Int32) : OPS → Bool
  | [] => false
  | o :: ops => if prc f ≤ prc o.2.2 then (if (decide (prc o.2.2 = prc f) && !decide (o.2.2 = f)) = true then true else chk f ops) else false
def bfm (o f : Int32) : Bool := decide (prc f < prc o) || (decide (prc o = prc f) && decide (oRem (f - 1) 2 = 0))
def rdm (q : Bool) (f : Int32) : OPS → ODS → OPS × ODS
  | [], l => ([], l)
  | o :: ops, l => if bfm o.2.2 f = true then rdm q f ops (red1 q o l) else (o :: ops, l)
def OpsOK : OPS → Prop
  | [] => True
  | [o] => 1 ≤ o.2.2 ∧ o.2.2 ≤ 20
  | o :: o' :: r => (1 ≤ o.2.2 ∧ o.2.2 ≤ 20) ∧ (prc o'.2.2 < prc o.2.2 ∨ o'.2.2 = o.2.2) ∧ OpsOK (o' :: r)
theorem OpsOK.tl {o : Int32 × Nat × Int32} {ops : OPS} (h : OpsOK (o :: ops)) : OpsOK ops := by
  cases ops with
  | nil => exact trivial
  | cons o' r => exact h.2.2
theorem OpsOK.hd {o : Int32 × Nat × Int32} {ops : OPS} (h : OpsOK (o :: ops)) : 1 ≤ o.2.2 ∧ o.2.2 ≤ 20 := by
  cases ops with
  | nil => exact h
  | cons o' r => exact h.1
theorem i32_le_of {a b : Int32} (h : a < b) : a ≤ b := Int32.le_of_lt h
theorem chk_same {f : Int32} : ∀ {ops : OPS} {o : Int32 × Nat × Int32}, OpsOK (o :: ops) → o.2.2 = f → chk f ops = false := by
  intro ops
  induction ops with
  | nil => intros; rfl
  | cons o' r ih =>
    intro o h e
    unfold chk
    rcases h.2.1 with h1 | h1
    · rw [if_neg (fun q => by rw [← e] at q; exact Int32.not_lt.mpr q h1)]
    · have e' : o'.2.2 = f := h1.trans e
      split
      · rw [if_neg (by rw [e']; simp)]
        exact ih h.2.2 e'
      · rfl
/-- same as what the parser says -/
theorem fx_odd {f : Int32} (h1 : 1 ≤ f) (h2 : f ≤ 20) : decide (oRem (f - 1) 2 = 0) = decide (f - f / 2 * 2 = 1) := by
  have h0 : 0 ≤ f := Int32.le_trans (by decide) h1
  have h8 : f ≤ 8191 := Int32.le_trans h2 (by decide)
  obtain ⟨c1, c2⟩ := clamp_lt h0 h8
  generalize f.toNatClampNeg = i at c1 c2
  subst c2
  have hi : i < 21 := by
    apply Nat.not_le.mp
    intro hq
    have : ¬ nI i < nI 21 := nI_nlt hq (by omega)
    exact this (Int32.lt_of_le_of_lt h2 (by decide))
  have key : ∀ k : Fin 21, decide (oRem (nI k.val - 1) 2 = 0) = decide (nI k.val - nI k.val / 2 * 2 = 1) ∨ k.val = 0 := by decide
  rcases key ⟨i, hi⟩ with h | h
  · exact h
  · dsimp only at h
    subst h
    exact absurd h1 (by decide)
theorem bf_fst {o f : Int32} (h1 : 1 ≤ f) (h2 : f ≤ 20) (hc : (decide (prc o = prc f) && !decide (o = f)) = false) : bfm o f = isFst o f := by
  unfold bfm isFst prc at *
  cases h : decide ((o - 1) / 2 = (f - 1) / 2) with
  | false => rfl
  | true =>
    rw [h, Bool.true_and] at hc
    have : o = f := by simpa using hc
    subst this
    rw [fx_odd h1 h2]
theorem reds_chk {q : Bool} {f : Int32} (h1 : 1 ≤ f) (h2 : f ≤ 20) : ∀ {ops : OPS} {l : ODS}, OpsOK ops → reds q f ops l = if chk f ops = true then none else some (rdm q f ops l) := by
  intro ops
  induction ops with
  | nil => intros; rfl
  | cons o ops ih =>
    intro l hO
    unfold reds chk rdm
    cases hc : (decide (prc o.2.2 = prc f) && !decide (o.2.2 = f)) with
    | true =>
      have hc' : (decide ((o.2.2 - 1) / 2 = (f - 1) / 2) && !decide (o.2.2 = f)) = true := hc
      have he : prc o.2.2 = prc f := of_decide_eq_true ((Bool.and_eq_true _ _).mp hc).1
      have hle : prc f ≤ prc o.2.2 := by rw [he]; exact Int32.le_refl _
      simp only [hc', hle, if_true]
    | false =>
      have hc' : (decide ((o.2.2 - 1) / 2 = (f - 1) / 2) && !decide (o.2.2 = f)) = false := hc
      rw [if_neg (by rw [hc']; decide), bf_fst h1 h2 hc, if_neg (show ¬ false = true by decide)]
      cases hf : isFst o.2.2 f with
      | true =>
        have hle : prc f ≤ prc o.2.2 := by
          unfold isFst at hf
          rcases (Bool.or_eq_true _ _).mp hf with h | h
          · exact Int32.le_of_lt (of_decide_eq_true h)
          · have := of_decide_eq_true ((Bool.and_eq_true _ _).mp h).1
            unfold prc
            rw [this]
            exact Int32.le_refl _
        rw [if_pos rfl, if_pos rfl, if_pos hle]
        exact ih hO.tl
      | false =>
        rw [if_neg (show ¬ false = true by decide), if_neg (show ¬ false = true by decide)]
        by_cases hle : prc f ≤ prc o.2.2
        · rw [if_pos hle]
          have he : o.2.2 = f := by
            unfold isFst at hf
            simp only [Bool.or_eq_false_iff, decide_eq_false_iff_not] at hf
            have heq : prc o.2.2 = prc f := Int32.le_antisymm (Int32.not_lt.mp hf.1) hle
            rw [decide_eq_true heq, Bool.true_and] at hc
            simpa using hc
          rw [chk_same hO he, if_neg (by decide)]
        · rw [if_neg hle, if_neg (by decide)]
theorem rdm_len {q : Bool} {f : Int32} : ∀ (ops : OPS) (l : ODS), l.length = ops.length + 1 → (rdm q f ops l).2.length = (rdm q f ops l).1.length + 1 ∧ (rdm q f ops l).1.length ≤ ops.length := by
  intro ops
  induction ops with
  | nil => intro l h; exact ⟨h, Nat.le_refl _⟩
  | cons o ops ih =>
    intro l h
    unfold rdm
    split
    · have h2 : (red1 q o l).length = ops.length + 1 := by
        match l, h with
        | (two, _) :: (one, b) :: r, h => simpa [red1] using h
        | [_], h => simp at h
      obtain ⟨a, b⟩ := ih (red1 q o l) h2
      exact ⟨a, by simp; omega⟩
    · exact ⟨by simpa using h, Nat.le_refl _⟩
theorem rdm_mem {q : Bool} {f : Int32} : ∀ (ops : OPS) (l : ODS) (o : Int32 × Nat × Int32), o ∈ (rdm q f ops l).1 → o ∈ ops := by
  intro ops
  induction ops with
  | nil => intro l o h; exact h
  | cons x ops ih =>
    intro l o h
    unfold rdm at h
    split at h
    · exact List.mem_cons_of_mem _ (ih _ o h)
    · exact h
theorem rdm_ok {q : Bool} {f nm : Int32} {pl : Nat} (h1 : 1 ≤ f) (h2 : f ≤ 20) : ∀ (ops : OPS) (l : ODS), OpsOK ops → chk f ops = false → OpsOK ((nm, pl, f) :: (rdm q f ops l).1) := by
  intro ops
  induction ops with
  | nil => intros; exact ⟨h1, h2⟩
  | cons o ops ih =>
    intro l hO hc
    unfold rdm
    unfold chk at hc
    cases hb : bfm o.2.2 f with
    | true =>
      rw [if_pos rfl]
      have hle : prc f ≤ prc o.2.2 := by
        unfold bfm at hb
        rcases (Bool.or_eq_true _ _).mp hb with h | h
        · exact Int32.le_of_lt (of_decide_eq_true h)
        · rw [of_decide_eq_true ((Bool.and_eq_true _ _).mp h).1]
          exact Int32.le_refl _
      rw [if_pos hle] at hc
      split at hc
      · cases hc
      · exact ih _ hO.tl hc
    | false =>
      rw [if_neg (by decide)]
      refine ⟨⟨h1, h2⟩, ?_, hO⟩
      by_cases hle : prc f ≤ prc o.2.2
      · rw [if_pos hle] at hc
        split at hc
        · cases hc
        · next hq =>
          right
          unfold bfm at hb
          simp only [Bool.or_eq_false_iff, decide_eq_false_iff_not] at hb
          have heq : prc o.2.2 = prc f := Int32.le_antisymm (Int32.not_lt.mp hb.1) hle
          rw [decide_eq_true heq, Bool.true_and] at hq
          simpa using hq
      · exact Or.inl (Int32.not_le.mp hle)
section MOP
variable {α β : Type} {W : Bool} {em : α → V} {em2 : β → V} {tk : TK} {f f1 f' fo : FM} {j j1 j' j0 : AS} {B B1 : Nat} {r : Option (Option V × AS)} {ps ps' : PS} {m n k k' : Nat} {LV : AL}
theorem msz17 {o : Nat} {l : List V} {v : V} {g : Nat × List V} (h : o + l.length + 1 < 2 ^ 31) : vsize (stM ps ((o, l ++ [v]), g) j) 17 (.int (oSub (nI (o + (l ++ [v]).length)) 1)) = some (stM ps ((o, l), g) j) := by
  have e1 : oSub (nI (o + (l ++ [v]).length)) 1 = nI (o + l.length) := by
    rw [List.length_append, List.length_singleton, ← Nat.add_assoc]
    exact nI_pred _
  rw [e1, vsize_nI (by omega) (by simp only [sM_f13, sM_f14, sM_f11, sM_f19, sM_f20, sM_f21, sM_R17, sM_R18, sM_R4, sM_R5, sM_o17, sM_o18, sM_o4, sM_o5, sM_nn, sM_fl]; omega) (by simp only [sM_f13, sM_f14, sM_f11, sM_f19, sM_f20, sM_f21, sM_R17, sM_R18, sM_R4, sM_R5, sM_o17, sM_o18, sM_o4, sM_o5, sM_nn, sM_fl]; simp)]
  simp only [sM_f13, sM_f14, sM_f11, sM_f19, sM_f20, sM_f21, sM_R17, sM_R18, sM_R4, sM_R5, sM_o17, sM_o18, sM_o4, sM_o5, sM_nn, sM_fl, sM_p13, sM_p14, sM_p11, sM_p17, sM_p18, sM_p19, sM_p20, sM_p21, nI_1, nI_pred, Nat.add_sub_cancel_left, List.take_left']
theorem msz18 {o : Nat} {l : List V} {v : V} {g : Nat × List V} (h : o + l.length + 1 < 2 ^ 31) : vsize (stM ps (g, (o, l ++ [v])) j) 18 (.int (oSub (nI (o + (l ++ [v]).length)) 1)) = some (stM ps (g, (o, l)) j) := by
  have e1 : oSub (nI (o + (l ++ [v]).length)) 1 = nI (o + l.length) := by
    rw [List.length_append, List.length_singleton, ← Nat.add_assoc]
    exact nI_pred _
  rw [e1, vsize_nI (by omega) (by simp only [sM_f13, sM_f14, sM_f11, sM_f19, sM_f20, sM_f21, sM_R17, sM_R18, sM_R4, sM_R5, sM_o17, sM_o18, sM_o4, sM_o5, sM_nn, sM_fl]; omega) (by simp only [sM_f13, sM_f14, sM_f11, sM_f19, sM_f20, sM_f21, sM_R17, sM_R18, sM_R4, sM_R5, sM_o17, sM_o18, sM_o4, sM_o5, sM_nn, sM_fl]; simp)]
  simp only [sM_f13, sM_f14, sM_f11, sM_f19, sM_f20, sM_f21, sM_R17, sM_R18, sM_R4, sM_R5, sM_o17, sM_o18, sM_o4, sM_o5, sM_nn, sM_fl, sM_p13, sM_p14, sM_p11, sM_p17, sM_p18, sM_p19, sM_p20, sM_p21, nI_1, nI_pred, Nat.add_sub_cancel_left, List.take_left']
theorem m_join (hm : 5 ≤ m) {q : Bool} {o7 o8 : Nat} {b7 b8 : List V} {two one : TR} {x2 x1 : Nat} {rr : ODS} {op : Int32 × Nat × Int32} {ops : OPS} (hop : op.1 ≤ 8191) (hf : ps.2.2.1 < 2 ^ 30) (h7 : o7 + b7.length + 2 * rr.length + 6 < ALM) (h8 : o8 + b8.length + 3 * ops.length + 4 < ALM) (hn : j.nn + 7 ≤ ALM) :
    ∃ c, c ≤ 7 ∧ aM m 66 [.int (b2i q)] (stM ps ((o7, b7 ++ ovm ((two, x2) :: (one, x1) :: rr)), (o8, b8 ++ opm (op :: ops))) j) = some (some (.int 0), stM ps ((o7, b7 ++ ovm (red1 q op ((two, x2) :: (one, x1) :: rr))), (o8, b8 ++ opm ops)) (mkN j c)) := by
  obtain ⟨n, rfl⟩ := suc1 (m := m) (by omega)
  have hA : ALM = 30000 := rfl
  have e7 : b7 ++ ovm ((two, x2) :: (one, x1) :: rr) = b7 ++ ovm rr ++ [.int (nI x1)] ++ [tv one] ++ [.int (nI x2)] ++ [tv two] := by rw [ovm_cons, ovm_cons]; simp
  have e8 : b8 ++ opm (op :: ops) = b8 ++ opm ops ++ [.int op.1] ++ [.int (op.2.2 - 1)] ++ [.int (nI op.2.1)] := by rw [opm_cons]; simp
  have l7 : (b7 ++ ovm rr).length = b7.length + 2 * rr.length := by rw [List.length_append, ovm_len]
  have l8 : (b8 ++ opm ops).length = b8.length + 3 * ops.length := by rw [List.length_append, opm_len]
  have hx : ∀ (L : AL) (s : AS) (g8 : Nat × List V), s = stM ps ((o7, b7 ++ ovm rr ++ [.int (nI x1)]), g8) j → aAt 17 (aBin oSub (aSz 17) (aK 1)) L s = some (some (.int (nI x1)), s) := by
    intro L s g8 hs
    subst hs
    have e1 : oSub (nI (o7 + (b7 ++ ovm rr ++ [Term.int (nI x1)]).length)) 1 = nI (o7 + (b7 ++ ovm rr).length) := by
      rw [List.length_append, List.length_singleton, ← Nat.add_assoc]
      exact nI_pred _
    unfold aAt aBin
    rw [aSz_e, ab_ok, aK_e, ab_ok, sM_R17, sM_o17, vbin_i, aok_ok, ab_ok, e1, sM_R17, sM_o17, aix_end (o := o7) (l := b7 ++ ovm rr) (r := []) rfl (by omega)]
    rfl
  rw [e7, e8, eM_join, zM_join, amth_run, if_pos (show [Term.int (b2i q)].length = 1 from rfl), run_seq, run_set, mp18, kS_ok, run_seq, run_opS, aK_e, kOS_ok, sM_R18, sM_o18, msz18 (by simp only [List.length_append, List.length_singleton, opm_len]; omega), og_ok, run_seq, run_set, mp18, kS_ok, run_seq, run_set, mp17, kS_ok, run_seq, run_opS, aK_e, kOS_ok, sM_R17, sM_o17, msz17 (by simp only [List.length_append, List.length_singleton, ovm_len]; omega), og_ok, run_seq, run_set, mp17, kS_ok, run_seq, run_set, hx _ _ _ rfl, kS_ok, run_seq, run_set]
  cases q with
  | true =>
    have ec := m_couple (m := n) (q := true) (ps := ps) (f := ((o7, b7 ++ ovm rr ++ [.int (nI x1)]), (o8, b8 ++ opm ops))) (j := j) (one := one) (two := two) (p := nI x1) (by omega) (by omega)
    simp only [if_true] at ec
    have emk := m_make (m := n) (ps := ps) (f := ((o7, b7 ++ ovm rr ++ [.int (nI x1)]), (o8, b8 ++ opm ops))) (j := mkN j 5) (k := 35) (p := nI x1) (a := .int op.1) (b := .int (-1)) (c := tv (tPair true one two (nI x1))) (by omega) (by rw [mkN_nn]; omega) (by decide) rfl rfl rfl
    refine ⟨6, by omega, ?_⟩
    simp only [d10, eq_self, decide_true, decide_false, ti_b, b2i_t, b2i_f, aK, aL, aF, aSz, aBin, aDiv, aB, aAt, aNd, aArgs, aCall, aIf, bCmp, bZ, bAnd, bOr, bNot, bTT, bIf, ab_ok, ab_no, ab_none, ab_ab, ab_ite, aok_ok, aok_none, og_ok, og_none, vbin_i, vb8_i, vput_i, vI_i, cmp_i, hold_eq, hold_ne, hold_lt, hold_ge, hold_gt, hold_le, b2i_0, ss_b, ss_ite, oAdd, oSub, oMul, Option.bind_some, A0of, va_up, List.length_nil, List.length_cons, List.getD_cons_zero, List.getD_cons_succ, List.getD_nil, if_true, if_false, Bool.not_not, Bool.not_true, Bool.not_false, Bool.false_eq_true, reduceIte, Nat.reduceSub, Nat.reduceAdd, Nat.reduceEqDiff, ec, emk, kS_ok, run_seq, run_add]
    rw [kAD_ok, ma17 (by dsimp only; simp only [List.length_append, List.length_singleton, ovm_len]; omega), og_ok, run_ret0, fin_v]
    simp only [red1, if_true, ovm_cons, mkN_mkN, List.append_assoc]
  | false =>
    have en := m_name (m := n) (ps := ps) (f := ((o7, b7 ++ ovm rr ++ [.int (nI x1)]), (o8, b8 ++ opm ops))) (j := j) (i := op.1) (p := nI op.2.1) (by omega) (by omega) hop hf
    have ec := m_couple (m := n) (q := false) (ps := ps) (f := ((o7, b7 ++ ovm rr ++ [.int (nI x1)]), (o8, b8 ++ opm ops))) (j := mkN j 1) (one := one) (two := two) (p := nI x1) (by omega) (by rw [mkN_nn]; omega)
    simp only [Bool.false_eq_true, if_false] at ec
    have emk := m_make (m := n) (ps := ps) (f := ((o7, b7 ++ ovm rr ++ [.int (nI x1)]), (o8, b8 ++ opm ops))) (j := mkN (mkN j 1) 5) (k := 15) (p := nI x1) (a := tv (tName op.1 (nI op.2.1))) (b := tv (tPair false one two (nI x1))) (c := .int (-1)) (by omega) (by simp only [mkN_nn]; omega) (by decide) rfl rfl rfl
    refine ⟨7, by omega, ?_⟩
    simp only [d10, eq_self, decide_true, decide_false, ti_b, b2i_t, b2i_f, aK, aL, aF, aSz, aBin, aDiv, aB, aAt, aNd, aArgs, aCall, aIf, bCmp, bZ, bAnd, bOr, bNot, bTT, bIf, ab_ok, ab_no, ab_none, ab_ab, ab_ite, aok_ok, aok_none, og_ok, og_none, vbin_i, vb8_i, vput_i, vI_i, cmp_i, hold_eq, hold_ne, hold_lt, hold_ge, hold_gt, hold_le, b2i_0, ss_b, ss_ite, oAdd, oSub, oMul, Option.bind_some, A0of, va_up, List.length_nil, List.length_cons, List.getD_cons_zero, List.getD_cons_succ, List.getD_nil, if_true, if_false, Bool.not_not, Bool.not_true, Bool.not_false, Bool.false_eq_true, reduceIte, Nat.reduceSub, Nat.reduceAdd, Nat.reduceEqDiff, en, ec, emk, kS_ok, run_seq, run_add]
    rw [kAD_ok, ma17 (by dsimp only; simp only [List.length_append, List.length_singleton, ovm_len]; omega), og_ok, run_ret0, fin_v]
    simp only [red1, Bool.false_eq_true, if_false, ovm_cons, mkN_mkN, List.append_assoc]
    rfl
theorem prc_div {L : AL} {A : AS} {a : AX} {x : Int32} (h : a L A = some (some (.int (x - 1)), A)) : aDiv oDiv a (aK 2) L A = some (some (.int (prc x)), A) := by
  unfold aDiv
  rw [h, ab_ok, aK_e, ab_ok]
  rfl
theorem m_chk_l {g : Nat × List V} {o8 : Nat} {b8 : List V} {fx : Int32} {K B0 C0 : KT} (hn : 1 ≤ n) (N : Nat) : ∀ (ops : OPS) (rest : List V) (LV : AL), ops.length ≤ N → o8 + b8.length + 3 * ops.length + rest.length < 2 ^ 30 → LV 1 = .int (nI (o8 + b8.length)) → LV 2 = .int (fx - 1) → LV 3 = .int (nI (o8 + b8.length + 3 * ops.length) - 3) →
    ∃ LV' : AL, rn (zWh (N + 1) (bAnd (bCmp .ge (aL 3) (aL 1)) (bCmp .ge (aDiv oDiv (aAt 18 (aBin oAdd (aL 3) (aK 1))) (aK 2)) (aDiv oDiv (aL 2) (aK 2)))) (zSeq (zIf (bAnd (bCmp .eq (aDiv oDiv (aAt 18 (aBin oAdd (aL 3) (aK 1))) (aK 2)) (aDiv oDiv (aL 2) (aK 2))) (bCmp .ne (aAt 18 (aBin oAdd (aL 3) (aK 1))) (aL 2))) (zEx (aCall (aM n) 11 [(aK 4), (aF 13)])) zSkip) (zInc 3 (-3))) zSkip LV (stM ps (g, (o8, b8 ++ opm ops ++ rest)) j)) K B0 C0 = if chk fx ops = true then some (none, ftM (stM ps (g, (o8, b8 ++ opm ops ++ rest)) j) 4) else K LV' (stM ps (g, (o8, b8 ++ opm ops ++ rest)) j) := by
  have stopc : ∀ {LV : AL} {A : AS}, LV 1 = .int (nI (o8 + b8.length)) → LV 3 = .int (nI (o8 + b8.length + 3 * 0) - 3) → o8 + b8.length < 2 ^ 30 → bCmp .ge (aL 3) (aL 1) LV A = some (some false, A) := by
    intro LV A l1 l3 h
    unfold bCmp
    have d : decide (nI (o8 + b8.length) ≤ nI (o8 + b8.length + 3 * 0) - 3) = false := decide_eq_false fun q => by
      rw [Int32.le_iff_toInt_le, Int32.toInt_sub, nI_toInt (by omega), nI_toInt (by omega), show (3 : Int32).toInt = 3 by decide, Int.bmod_eq_of_le (by omega) (by omega)] at q
      omega
    rw [aL_e, ab_ok, aL_e, ab_ok, l1, l3, cmp_i, hold_ge, d]
    rfl
  induction N with
  | zero =>
    intro ops rest LV h1 h2 l1 l2 l3
    have : ops = [] := List.length_eq_zero_iff.mp (by omega)
    subst this
    refine ⟨LV, ?_⟩
    rw [rn_wh]
    unfold bAnd
    rw [stopc l1 l3 (by simp at h2; omega), ab_ok, if_neg (by decide), ab_ok, if_neg (by decide)]
    rfl
  | succ N ih' =>
    intro ops rest LV h1 h2 l1 l2 l3
    cases ops with
    | nil =>
      refine ⟨LV, ?_⟩
      rw [rn_wh]
      unfold bAnd
      rw [stopc l1 l3 (by simp at h2; omega), ab_ok, if_neg (by decide), ab_ok, if_neg (by decide)]
      rfl
    | cons o ops =>
      simp only [List.length_cons] at h1 h2 l3
      have e3 : nI (o8 + b8.length + 3 * (ops.length + 1)) - 3 = nI (o8 + b8.length + 3 * ops.length) := by
        rw [show (3 : Int32) = nI 3 from rfl, nI_sub (by omega)]
        congr 1
      rw [e3] at l3
      have er : b8 ++ opm (o :: ops) ++ rest = b8 ++ opm ops ++ [.int o.1] ++ .int (o.2.2 - 1) :: ([.int (nI o.2.1)] ++ rest) := by rw [opm_cons]; simp
      have er2 : b8 ++ opm (o :: ops) ++ rest = b8 ++ opm ops ++ ([.int o.1, .int (o.2.2 - 1), .int (nI o.2.1)] ++ rest) := by rw [opm_cons]; simp
      have eat : aAt 18 (aBin oAdd (aL 3) (aK 1)) LV (stM ps (g, (o8, b8 ++ opm (o :: ops) ++ rest)) j) = some (some (.int (o.2.2 - 1)), stM ps (g, (o8, b8 ++ opm (o :: ops) ++ rest)) j) := by
        have e1 : oAdd (nI (o8 + b8.length + 3 * ops.length)) 1 = nI (o8 + (b8 ++ opm ops ++ [Term.int o.1]).length) := by
          rw [show oAdd (nI (o8 + b8.length + 3 * ops.length)) 1 = nI (o8 + b8.length + 3 * ops.length + 1) from nI_1 _]
          congr 1
          simp only [List.length_append, List.length_singleton, opm_len]
          omega
        unfold aAt aBin
        rw [aL_e, ab_ok, l3, aK_e, ab_ok, vbin_i, aok_ok, ab_ok, e1, sM_R18, sM_o18, er, aix_end (o := o8) (l := b8 ++ opm ops ++ [Term.int o.1]) rfl (by simp only [List.length_append, List.length_singleton, opm_len]; omega)]
        rfl
      have eL2 : ∀ A : AS, aL 2 LV A = some (some (.int (fx - 1)), A) := fun A => by rw [aL_e, l2]
      have c1 : bCmp .ge (aL 3) (aL 1) LV (stM ps (g, (o8, b8 ++ opm (o :: ops) ++ rest)) j) = some (some true, stM ps (g, (o8, b8 ++ opm (o :: ops) ++ rest)) j) := by
        unfold bCmp
        have d : decide (nI (o8 + b8.length) ≤ nI (o8 + b8.length + 3 * ops.length)) = true := decide_eq_true (Int32.not_lt.mp (nI_nlt (by omega) (by omega)))
        rw [aL_e, ab_ok, aL_e, ab_ok, l1, l3, cmp_i, hold_ge, d]
        rfl
      have c2 : bCmp .ge (aDiv oDiv (aAt 18 (aBin oAdd (aL 3) (aK 1))) (aK 2)) (aDiv oDiv (aL 2) (aK 2)) LV (stM ps (g, (o8, b8 ++ opm (o :: ops) ++ rest)) j) = some (some (decide (prc fx ≤ prc o.2.2)), stM ps (g, (o8, b8 ++ opm (o :: ops) ++ rest)) j) := by
        unfold bCmp
        rw [prc_div eat, ab_ok, prc_div (eL2 _), ab_ok, cmp_i, hold_ge]
        rfl
      have c3 : bCmp .eq (aDiv oDiv (aAt 18 (aBin oAdd (aL 3) (aK 1))) (aK 2)) (aDiv oDiv (aL 2) (aK 2)) LV (stM ps (g, (o8, b8 ++ opm (o :: ops) ++ rest)) j) = some (some (decide (prc o.2.2 = prc fx)), stM ps (g, (o8, b8 ++ opm (o :: ops) ++ rest)) j) := by
        unfold bCmp
        rw [prc_div eat, ab_ok, prc_div (eL2 _), ab_ok, cmp_i, hold_eq]
        rfl
      have c4 : bCmp .ne (aAt 18 (aBin oAdd (aL 3) (aK 1))) (aL 2) LV (stM ps (g, (o8, b8 ++ opm (o :: ops) ++ rest)) j) = some (some (!decide (o.2.2 = fx)), stM ps (g, (o8, b8 ++ opm (o :: ops) ++ rest)) j) := by
        unfold bCmp
        have d : decide (o.2.2 - 1 = fx - 1) = decide (o.2.2 = fx) := by
          rw [decide_eq_decide]
          constructor
          · intro h
            have := congrArg (fun x => x + 1) h
            simpa [Int32.sub_add_cancel] using this
          · intro h
            rw [h]
        rw [eat, ab_ok, eL2, ab_ok, cmp_i, hold_ne, d]
        rfl
      rw [rn_wh, bAnd_e c1 c2, ab_ok, Bool.true_and]
      unfold chk
      by_cases hle : prc fx ≤ prc o.2.2
      · rw [decide_eq_true hle, if_pos rfl, if_pos hle, rn_seq, rn_if, bAnd_e c3 c4, ab_ok]
        cases hq : (decide (prc o.2.2 = prc fx) && !decide (o.2.2 = fx)) with
        | true =>
          refine ⟨LV, ?_⟩
          rw [if_pos rfl, if_pos rfl, if_pos rfl, rn_ex, aCall_2, aK_e, ab_ok, aF_e, ab_ok, m_fail hn]
          rfl
        | false =>
          have e4 : nI (o8 + b8.length + 3 * ops.length) + -3 = nI (o8 + b8.length + 3 * ops.length) - 3 := (Int32.sub_eq_add_neg _ _).symm
          obtain ⟨LV', rr⟩ := ih' ops ([.int o.1, .int (o.2.2 - 1), .int (nI o.2.1)] ++ rest) (va_up LV 3 (.int (nI (o8 + b8.length + 3 * ops.length) - 3))) (by omega) (by simp; omega) l1 l2 rfl
          refine ⟨LV', ?_⟩
          rw [if_neg (show ¬ false = true by decide), if_neg (show ¬ false = true by decide), rn_skip, rn_inc, l3, vbin_i, aok_ok, ab_ok, show oAdd (nI (o8 + b8.length + 3 * ops.length)) (-3) = nI (o8 + b8.length + 3 * ops.length) - 3 from e4, rn_skip, er2]
          exact rr
      · refine ⟨LV, ?_⟩
        rw [decide_eq_false hle, if_neg (by decide), if_neg hle, if_neg (by decide)]
end MOP
