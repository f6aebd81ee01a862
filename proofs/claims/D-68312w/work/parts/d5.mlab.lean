/-! M: labels, fields are sorted -/
def srt (items : List (Int32 × TR)) : List (Int32 × TR) := items.foldl (fun acc q => insF q.1 q.2 acc) []
theorem srt_snoc (items : List (Int32 × TR)) (q : Int32 × TR) : srt (items ++ [q]) = insF q.1 q.2 (srt items) := by
  simp [srt, List.foldl_append]
theorem insF_any (l : Int32) (t : TR) (p : Int32 × TR → Bool) : ∀ acc, (insF l t acc).any p = (p (l, t) || acc.any p) := by
  intro acc
  induction acc with
  | nil => rfl
  | cons x r ih =>
    unfold insF
    split
    · rfl
    · rw [List.any_cons, ih, List.any_cons, Bool.or_left_comm]
theorem srt_any (p : Int32 × TR → Bool) (items : List (Int32 × TR)) : (srt items).any p = items.any p := by
  rcases List.eq_nil_or_concat items with h | ⟨i0, q, h⟩
  · subst h; rfl
  · generalize hn : items.length = n
    induction n generalizing items i0 q with
    | zero => subst h; simp at hn
    | succ n ih =>
      subst h
      simp only [List.concat_eq_append] at *
      rw [srt_snoc, insF_any, List.any_append]
      simp only [List.length_append, List.length_cons, List.length_nil] at hn
      have e : (srt i0).any p = i0.any p := by
        rcases List.eq_nil_or_concat i0 with h | ⟨i1, q1, h⟩
        · subst h; rfl
        · exact ih i0 i1 q1 (by rw [h, List.concat_eq_append]) (by omega)
      rw [e, Bool.or_comm]
      simp
theorem insF_len (l : Int32) (t : TR) : ∀ acc, (insF l t acc).length = acc.length + 1 := by
  intro acc
  induction acc with
  | nil => rfl
  | cons x r ih =>
    unfold insF
    split
    · rfl
    · simp [ih]
theorem srt_len (items : List (Int32 × TR)) : (srt items).length = items.length := by
  have key : ∀ (l acc : List (Int32 × TR)), (l.foldl (fun acc q => insF q.1 q.2 acc) acc).length = acc.length + l.length := by
    intro l
    induction l with
    | nil => intro acc; rfl
    | cons q l ih => intro acc; rw [List.foldl_cons, ih, insF_len]; simp; omega
  simpa [srt] using key items []
def rk (l : Int32) : Int32 := if 0 < l then l else 1000000 - l
def LabR (l : Int32) : Prop := (1 ≤ l.toInt ∧ l.toInt ≤ 9999) ∨ (-8192 ≤ l.toInt ∧ l.toInt ≤ -1)
theorem rk_int {l : Int32} (h : LabR l) : (rk l).toInt = if 0 < l.toInt then l.toInt else 1000000 - l.toInt := by
  unfold rk
  have e0 : (0 < l) ↔ 0 < l.toInt := by rw [Int32.lt_iff_toInt_lt]; rfl
  by_cases h0 : 0 < l
  · rw [if_pos h0, if_pos (e0.mp h0)]
  · rw [if_neg h0, if_neg (fun q => h0 (e0.mpr q)), Int32.toInt_sub]
    have : (1000000 : Int32).toInt = 1000000 := by decide
    rw [this]
    unfold LabR at h
    exact Int.bmod_eq_of_le (by omega) (by omega)
theorem isBef_rk {l o : Int32} (hl : LabR l) (ho : LabR o) : isBef l o = decide (rk l < rk o) := by
  have e0 : (0 < l) ↔ 0 < l.toInt := by rw [Int32.lt_iff_toInt_lt]; rfl
  have e1 : (o < 0) ↔ o.toInt < 0 := by rw [Int32.lt_iff_toInt_lt]; rfl
  have h1 := rk_int hl
  have h2 := rk_int ho
  unfold LabR at hl ho
  unfold isBef
  rw [Bool.eq_iff_iff]
  by_cases h0 : 0 < l
  · rw [if_pos h0, Bool.or_eq_true, decide_eq_true_eq, decide_eq_true_eq, decide_eq_true_eq, e1, Int32.lt_iff_toInt_lt, Int32.lt_iff_toInt_lt, h1, h2]
    have h0' := e0.mp h0
    rw [if_pos h0']
    split <;> omega
  · have h0' : ¬ 0 < l.toInt := fun q => h0 (e0.mpr q)
    rw [if_neg h0, Bool.and_eq_true, decide_eq_true_eq, decide_eq_true_eq, decide_eq_true_eq, e1, Int32.lt_iff_toInt_lt, Int32.lt_iff_toInt_lt, h1, h2, if_neg h0']
    split <;> omega
theorem lab_R {tk : TK} {i : Nat} (ht : tkOK tk) (h : labB tk i = true) : LabR (labV tk i) := by
  have hlt := lab_lt h
  obtain ⟨g1, g2, g3, g4, g5, g6, g7⟩ := k_val ht hlt
  have z0 : (0 : Int32).toInt = 0 := by decide
  have z1 : (9999 : Int32).toInt = 9999 := by decide
  unfold labB at h
  unfold labV LabR
  by_cases h6 : kAt tk i = 6
  · rw [if_pos h6]
    have hn : nmB tk i = false := by simp [nmB, h6]
    rw [hn, Bool.or_false, Bool.and_eq_true, decide_eq_true_eq, decide_eq_true_eq] at h
    have h7 := h.2
    rw [Int32.lt_iff_toInt_lt] at h7
    rw [Int32.le_iff_toInt_le] at g7
    left
    omega
  · rw [if_neg h6]
    have h' : nmB tk i = true := by simpa [h6] using h
    obtain ⟨_, v0, v1⟩ := nm_val ht h'
    rw [Int32.le_iff_toInt_le] at v0 v1
    have z2 : (8191 : Int32).toInt = 8191 := by decide
    have e : (-1 - vAt tk i).toInt = -1 - (vAt tk i).toInt := by
      rw [Int32.toInt_sub]
      have : (-1 : Int32).toInt = -1 := by decide
      rw [this]
      exact Int.bmod_eq_of_le (by omega) (by omega)
    right
    omega
def FldR (l : List (Int32 × TR)) : Prop := FldOK l ∧ ∀ q ∈ l, LabR q.1
section MLB
variable {tk : TK} {ps : PS} {f : FM} {j : AS} {m n : Nat} {A : AS} {LV : AL}
theorem m_label (hm : 4 ≤ m) (ht : tkOK tk) (hT : TKM tk j) (ha : ps.1 ≤ Tn tk) : aM m 32 [] (stM ps f j) = if labB tk ps.1 = true then some (some (.int (labV tk ps.1)), stM (ps.1 + 1, ps.2) f j) else some (none, ftM (stM ps f j) 1) := by
  obtain ⟨n, rfl⟩ := suc1 (m := m) (by omega)
  have e := bNot_e (aCall0_b (L := A0of true []) (m_isLabel (m := n) (f := f) (by omega) ht hT ha))
  rw [eM_label, zM_label, amth_run, List.length_nil, if_pos rfl, fin_ok, run_seq, run_if, e]
  cases h : labB tk ps.1 with
  | false =>
    rw [Bool.not_false, kI_t, run_ex, aCall_nil, m_stop (by omega), kE_no, if_neg (by decide)]
  | true =>
    have hlt := lab_lt h
    have ek : ∀ L : AL, bCmp .eq (aCall (aM n) 8 []) (aK 6) L (stM ps f j) = some (some (decide (kAt tk ps.1 = 6)), stM ps f j) := fun L => mK n (by omega) ht hT ha 6
    have ev : ∀ L : AL, (aIf (bCmp .eq (aCall (aM n) 8 []) (aK 6)) (aAt 2 (aF 13)) (aBin oSub (aK (-1)) (aAt 1 (aF 13)))) L (stM ps f j) = some (some (.int (labV tk ps.1)), stM ps f j) := by
      intro L
      unfold aIf labV
      rw [ek, ab_ok]
      by_cases h6 : kAt tk ps.1 = 6
      · rw [decide_eq_true h6, if_pos rfl, if_pos h6, mAt2 ht hT hlt mF13]
      · rw [decide_eq_false h6, if_neg (by decide), if_neg h6]
        unfold aBin
        rw [aK_e, ab_ok, mAt1 ht hT hlt mF13, ab_ok]
        rfl
    rw [Bool.not_true, kI_f, run_skip, run_seq, run_set, ev, kS_ok, run_seq, run_opF, aK_e, kOF_ok, sM_f13, show oAdd (nI ps.1) 1 = nI (ps.1 + 1) from nI_1 _, sM_p13, run_ret, aL_e, if_pos rfl]
    rfl
theorem fvs_len (l : List (Int32 × TR)) : (fvs l).length = l.length := by simp [fvs]
theorem fvs_app (a b : List (Int32 × TR)) : fvs (a ++ b) = fvs a ++ fvs b := by simp [fvs]
theorem m_chk_loop (hm : 1 ≤ m) {o : Nat} {base : List V} {l : Int32} {g : Nat × List V} {K B C : KT} (N : Nat) : ∀ (todo don : List (Int32 × TR)) (LV : AL), todo.length ≤ N → o + base.length + don.length + todo.length < 2 ^ 30 → FldOK todo → LV 2 = .int l → LV 3 = .int (nI (o + base.length + don.length)) →
    ∃ LV' : AL, rn (zWh (N + 1) (bCmp .lt (aL 3) (aSz 17)) (zIf (bCmp .eq (aNd cvM 1 (aAt 17 (aL 3))) (aL 2)) (zEx (aCall (aM m) 11 [(aK 2), (aF 13)])) zSkip) (zInc 3 1) LV (stM ps ((o, base ++ fvs don ++ fvs todo), g) j)) K B C
      = if todo.any (fun q => decide (q.1 = l)) = true then some (none, ftM (stM ps ((o, base ++ fvs don ++ fvs todo), g) j) 2) else K LV' (stM ps ((o, base ++ fvs don ++ fvs todo), g) j) := by
  induction N with
  | zero =>
    intro todo don LV h1 h2 h3 h4 h5
    have : todo = [] := List.length_eq_zero_iff.mp (by omega)
    subst this
    refine ⟨LV, ?_⟩
    have e : decide (nI (o + base.length + don.length) < nI (o + (base ++ fvs don ++ fvs []).length)) = false := decide_eq_false (nI_nlt (by simp [fvs]; omega) (by simp at h2; omega))
    rw [rn_wh]
    simp only [d10, eq_self, decide_true, decide_false, ti_b, b2i_t, b2i_f, aK, aL, aF, aSz, aBin, aDiv, aB, aAt, aNd, aArgs, aCall, aIf, bCmp, bZ, bAnd, bOr, bNot, bTT, bIf, ab_ok, ab_no, ab_none, ab_ab, ab_ite, aok_ok, aok_none, og_ok, og_none, vbin_i, vb8_i, vput_i, vI_i, cmp_i, hold_eq, hold_ne, hold_lt, hold_ge, hold_gt, hold_le, b2i_0, ss_b, ss_ite, oAdd, oSub, oMul, Option.bind_some, A0of, va_up, List.length_nil, List.length_cons, List.getD_cons_zero, List.getD_cons_succ, List.getD_nil, if_true, if_false, Bool.not_not, Bool.not_true, Bool.not_false, Bool.false_eq_true, reduceIte, Nat.reduceSub, Nat.reduceAdd, Nat.reduceEqDiff, sM_f13, sM_f14, sM_f11, sM_f19, sM_f20, sM_f21, sM_R17, sM_R18, sM_R4, sM_R5, sM_o17, sM_o18, sM_o4, sM_o5, sM_nn, sM_fl, h5, e]
    rfl
  | succ N ih =>
    intro todo don LV h1 h2 h3 h4 h5
    cases todo with
    | nil =>
      refine ⟨LV, ?_⟩
      have e : decide (nI (o + base.length + don.length) < nI (o + (base ++ fvs don ++ fvs []).length)) = false := decide_eq_false (nI_nlt (by simp [fvs]; omega) (by simp at h2; omega))
      rw [rn_wh]
      simp only [d10, eq_self, decide_true, decide_false, ti_b, b2i_t, b2i_f, aK, aL, aF, aSz, aBin, aDiv, aB, aAt, aNd, aArgs, aCall, aIf, bCmp, bZ, bAnd, bOr, bNot, bTT, bIf, ab_ok, ab_no, ab_none, ab_ab, ab_ite, aok_ok, aok_none, og_ok, og_none, vbin_i, vb8_i, vput_i, vI_i, cmp_i, hold_eq, hold_ne, hold_lt, hold_ge, hold_gt, hold_le, b2i_0, ss_b, ss_ite, oAdd, oSub, oMul, Option.bind_some, A0of, va_up, List.length_nil, List.length_cons, List.getD_cons_zero, List.getD_cons_succ, List.getD_nil, if_true, if_false, Bool.not_not, Bool.not_true, Bool.not_false, Bool.false_eq_true, reduceIte, Nat.reduceSub, Nat.reduceAdd, Nat.reduceEqDiff, sM_f13, sM_f14, sM_f11, sM_f19, sM_f20, sM_f21, sM_R17, sM_R18, sM_R4, sM_R5, sM_o17, sM_o18, sM_o4, sM_o5, sM_nn, sM_fl, h5, e]
      rfl
    | cons q todo =>
      simp only [List.length_cons] at h1 h2
      have e : decide (nI (o + base.length + don.length) < nI (o + (base ++ fvs don ++ fvs (q :: todo)).length)) = true := decide_eq_true (nI_lt (by simp [fvs]; omega) (by simp [fvs]; omega))
      obtain ⟨q1, q2⟩ := h3 q List.mem_cons_self
      have a1 : aix o (base ++ fvs don ++ fvs (q :: todo)) (.int (nI (o + base.length + don.length))) = some (tv q.2) := aix_end (l := base ++ fvs don) (r := fvs todo) (congrArg nI (by simp [fvs]; omega)) (by simp [fvs]; omega)
      have a2 : ndF cvM 1 (tv q.2) = some (.int q.1) := by rw [nd1 _ _ q2, q1]
      rw [List.any_cons]
      cases hq : decide (q.1 = l) with
      | true =>
        refine ⟨LV, ?_⟩
        have ef := m_fail (m := m) (A := stM ps ((o, base ++ fvs don ++ fvs (q :: todo)), g) j) hm 2 (nI ps.1)
        rw [rn_wh]
        simp only [amth_eq, rn_seq, rn_if, rn_set, rn_inc, rn_ex, rn_ret, rn_ret0, rn_skip, rn_putF, rn_opF, rn_opU, rn_putS, rn_opS, rn_at, rn_atB, rn_add, rn_swap, rn_sw, rn_brk, rn_cnt, fin_ok, fin_ab, fin_ite, fin_og, fin_b, fin_0, fin_1, fin_v, fin_no, fin_none, d10, eq_self, decide_true, decide_false, ti_b, b2i_t, b2i_f, aK, aL, aF, aSz, aBin, aDiv, aB, aAt, aNd, aArgs, aCall, aIf, bCmp, bZ, bAnd, bOr, bNot, bTT, bIf, ab_ok, ab_no, ab_none, ab_ab, ab_ite, aok_ok, aok_none, og_ok, og_none, vbin_i, vb8_i, vput_i, vI_i, cmp_i, hold_eq, hold_ne, hold_lt, hold_ge, hold_gt, hold_le, b2i_0, ss_b, ss_ite, oAdd, oSub, oMul, Option.bind_some, A0of, va_up, List.length_nil, List.length_cons, List.getD_cons_zero, List.getD_cons_succ, List.getD_nil, if_true, if_false, Bool.not_not, Bool.not_true, Bool.not_false, Bool.false_eq_true, reduceIte, Nat.reduceSub, Nat.reduceAdd, Nat.reduceEqDiff, sM_f13, sM_f14, sM_f11, sM_f19, sM_f20, sM_f21, sM_R17, sM_R18, sM_R4, sM_R5, sM_o17, sM_o18, sM_o4, sM_o5, sM_nn, sM_fl, h4, h5, e, a1, a2, hq, ef, Bool.true_or]
        rfl
      | false =>
        have er : base ++ fvs don ++ fvs (q :: todo) = base ++ fvs (don ++ [q]) ++ fvs todo := by simp [fvs]
        obtain ⟨LV', r⟩ := ih todo (don ++ [q]) (va_up LV 3 (.int (nI (o + base.length + don.length + 1)))) (by omega) (by simp; omega) (fun x hx => h3 x (List.mem_cons_of_mem _ hx)) h4 (by simp [va_up, Nat.add_assoc])
        refine ⟨LV', ?_⟩
        rw [← er] at r
        rw [rn_wh]
        simp only [amth_eq, rn_seq, rn_if, rn_set, rn_inc, rn_ex, rn_ret, rn_ret0, rn_skip, rn_putF, rn_opF, rn_opU, rn_putS, rn_opS, rn_at, rn_atB, rn_add, rn_swap, rn_sw, rn_brk, rn_cnt, fin_ok, fin_ab, fin_ite, fin_og, fin_b, fin_0, fin_1, fin_v, fin_no, fin_none, d10, eq_self, decide_true, decide_false, ti_b, b2i_t, b2i_f, aK, aL, aF, aSz, aBin, aDiv, aB, aAt, aNd, aArgs, aCall, aIf, bCmp, bZ, bAnd, bOr, bNot, bTT, bIf, ab_ok, ab_no, ab_none, ab_ab, ab_ite, aok_ok, aok_none, og_ok, og_none, vbin_i, vb8_i, vput_i, vI_i, cmp_i, hold_eq, hold_ne, hold_lt, hold_ge, hold_gt, hold_le, b2i_0, ss_b, ss_ite, oAdd, oSub, oMul, Option.bind_some, A0of, va_up, List.length_nil, List.length_cons, List.getD_cons_zero, List.getD_cons_succ, List.getD_nil, if_true, if_false, Bool.not_not, Bool.not_true, Bool.not_false, Bool.false_eq_true, reduceIte, Nat.reduceSub, Nat.reduceAdd, Nat.reduceEqDiff, sM_f13, sM_f14, sM_f11, sM_f19, sM_f20, sM_f21, sM_R17, sM_R18, sM_R4, sM_R5, sM_o17, sM_o18, sM_o4, sM_o5, sM_nn, sM_fl, h4, h5, e, a1, a2, hq, nI_1, Bool.false_or]
        exact r
theorem m_checkLabel (hm : 4 ≤ m) (ht : tkOK tk) (hT : TKM tk j) (ha : ps.1 ≤ Tn tk) {o : Nat} {base : List V} {acc : List (Int32 × TR)} {g : Nat × List V} (hacc : FldOK acc) (h1 : acc.length < 99999) (h2 : o + base.length + acc.length < 2 ^ 30) :
    aM m 30 [.int (nI (o + base.length))] (stM ps ((o, base ++ fvs acc), g) j) = if labB tk ps.1 = true then (if acc.any (fun q => decide (q.1 = labV tk ps.1)) = true then some (none, ftM (stM ps ((o, base ++ fvs acc), g) j) 2) else some (some (.int 0), stM ps ((o, base ++ fvs acc), g) j)) else some (none, ftM (stM ps ((o, base ++ fvs acc), g) j) 1) := by
  obtain ⟨n, rfl⟩ := suc1 (m := m) (by omega)
  have e := bNot_e (aCall0_b (L := A0of true [.int (nI (o + base.length))]) (m_isLabel (m := n) (f := ((o, base ++ fvs acc), g)) (by omega) ht hT ha))
  rw [eM_checkLabel, zM_checkLabel, amth_run, if_pos (show [Term.int (nI (o + base.length))].length = 1 from rfl), run_seq, run_if, e]
  cases h : labB tk ps.1 with
  | false =>
    rw [Bool.not_false, kI_t, run_ex, aCall_nil, m_stop (by omega), kE_no, if_neg (by decide), fin_no]
  | true =>
    have hlt := lab_lt h
    have ek : ∀ L : AL, bCmp .eq (aCall (aM n) 8 []) (aK 6) L (stM ps ((o, base ++ fvs acc), g) j) = some (some (decide (kAt tk ps.1 = 6)), stM ps ((o, base ++ fvs acc), g) j) := fun L => mK n (by omega) ht hT ha 6
    have ev : ∀ L : AL, (aIf (bCmp .eq (aCall (aM n) 8 []) (aK 6)) (aAt 2 (aF 13)) (aBin oSub (aK (-1)) (aAt 1 (aF 13)))) L (stM ps ((o, base ++ fvs acc), g) j) = some (some (.int (labV tk ps.1)), stM ps ((o, base ++ fvs acc), g) j) := by
      intro L
      unfold aIf labV
      rw [ek, ab_ok]
      by_cases h6 : kAt tk ps.1 = 6
      · rw [decide_eq_true h6, if_pos rfl, if_pos h6, mAt2 ht hT hlt mF13]
      · rw [decide_eq_false h6, if_neg (by decide), if_neg h6]
        unfold aBin
        rw [aK_e, ab_ok, mAt1 ht hT hlt mF13, ab_ok]
        rfl
    obtain ⟨LV', r⟩ := m_chk_loop (m := n) (ps := ps) (j := j) (o := o) (base := base) (l := labV tk ps.1) (g := g) (K := run [zRet0] nk) (B := nk) (C := nk) (by omega) 99999 acc [] (va_up (va_up (A0of true [.int (nI (o + base.length))]) 2 (.int (labV tk ps.1))) 3 (.int (nI (o + base.length)))) (by omega) (by simpa using h2) hacc rfl rfl
    rw [Bool.not_true, kI_f, run_skip, run_seq, run_set, ev, kS_ok, run_seq, run_seq, run_set, aL_e, kS_ok, run_rn, show LN = 99999 + 1 from rfl]
    simp only [fvs, List.map_nil, List.append_nil] at r ⊢
    refine (congrArg (fin false false) r).trans ?_
    rw [if_pos trivial]
    cases acc.any (fun q => decide (q.1 = labV tk ps.1)) <;> rfl
end MLB
