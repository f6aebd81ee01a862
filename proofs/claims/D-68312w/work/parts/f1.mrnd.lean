/-! M: brackets and lists of expressions -/
theorem nrt_add (k : Nat) (a : AX) (L : AL) (A : AS) : ∀ f L' A', zAdd k a L A = some (f, L', A') → f.1 ≠ 1 := by
  intro f L' A' h
  unfold zAdd at h
  match ha : a L A with
  | none => rw [ha] at h; cases h
  | some (none, A1) =>
    rw [ha] at h
    cases h
    show (2 : Nat) ≠ 1
    decide
  | some (some v, A1) =>
    rw [ha] at h
    have h : zgo L (vadd A1 k v) = some (f, L', A') := h
    cases hv : vadd A1 k v with
    | none => rw [hv] at h; cases h
    | some A2 =>
      rw [hv] at h
      cases h
      show (0 : Nat) ≠ 1
      decide
theorem nrt_do (k : Nat) (a : AX) (c : BX) : ∀ (N : Nat) (L : AL) (A : AS) (f : Nat × V) (L' : AL) (A' : AS), zDo N (zAdd k a) c L A = some (f, L', A') → f.1 ≠ 1 := by
  intro N
  induction N with
  | zero => intro L A f L' A' h; cases h
  | succ N ih =>
    intro L A f L' A' h
    unfold zDo at h
    match hb : zAdd k a L A with
    | none => rw [hb] at h; cases h
    | some (g, L1, A1) =>
      rw [hb] at h
      have hg := nrt_add k a L A g L1 A1 hb
      dsimp only at h
      split at h
      · match hc : c L1 A1 with
        | none => rw [hc] at h; cases h
        | some (none, A2) =>
          rw [hc] at h
          cases h
          show (2 : Nat) ≠ 1
          decide
        | some (some q, A2) =>
          rw [hc] at h
          have h : (if q = true then zDo N (zAdd k a) c L1 A2 else some ((0, .int 0), L1, A2)) = some (f, L', A') := h
          split at h
          · exact ih _ _ _ _ _ h
          · cases h
            show (0 : Nat) ≠ 1
            decide
      · split at h
        · cases h
          show (0 : Nat) ≠ 1
          decide
        · cases h
          exact hg
theorem rn_ab {r : Option ((Nat × V) × AL × AS)} {K B C : KT} {g : V → AS → Option (Option V × AS)} (h : ∀ f L' A', r = some (f, L', A') → f.1 ≠ 1) : ab (rn r K B C) g = rn r (fun L A => ab (K L A) g) (fun L A => ab (B L A) g) (fun L A => ab (C L A) g) := by
  match r, h with
  | none, _ => rfl
  | some (f, L, A), h =>
    have h1 := h f L A rfl
    unfold rn
    dsimp only
    split
    · rfl
    · split
      · rfl
      · split
        · rfl
        · split <;> rfl
section MRD
variable {α β : Type} {em : α → V} {em2 : β → V} {tk : TK} {f f1 f' fo : FM} {j j1 j' j0 : AS} {B B1 a : Nat} {r : Option (Option V × AS)} {ps ps' : PS} {m n k k' : Nat} {LV : AL}
theorem m_exB {E : PA TR} {c o : Nat} {base : List V} {g : Nat × List V} {Inv : AL → Prop} (hEg : PGr tk E) (hE : CoM false tv tk c 30 12 [] E) (hn : c ≤ n) : BodyD false tk n o base g E Inv 30 (zAdd 17 (aCall (aM n) 12 [])) := by
  intro α em fo F don ps j j0 LV K B0 C0 B hP hj hI hK
  have hS := hP.2.2.2.2.2.2
  have hA : ALM = 30000 := rfl
  rw [rn_add, aCall_nil]
  refine ctm_st hE hEg (by omega) hn hP hj fun t ps1 j1 g1 hP1 hj1 hB1 => ?_
  have hlen : o + (base ++ don.map tv).length < ALM := by simp only [fSm] at hS; omega
  rw [ma17 hlen, og_ok, show base ++ don.map tv ++ [tv t] = base ++ (don ++ [t]).map tv by simp]
  exact hK t ps1 j1 LV g1 hj1 hB1 hI
theorem m_round {E : PA TR} {c : Nat} (hEg : PGr tk E) (hE : CoM false tv tk c 30 12 [] E) : CoM false tv tk (max c 5 + 1) 60 54 [] (pBrk tk false E) := by
  intro k ps f j B hk hP hB
  obtain ⟨n, rfl⟩ := suc1 (m := k) (by omega)
  obtain ⟨⟨o, base⟩, g⟩ := f
  obtain ⟨ht, hT, hps, ha, hop0, hfr, hS⟩ := id hP
  have hA : ALM = 30000 := rfl
  unfold pBrk
  rw [eM_round, zM_round, amth_run, List.length_nil, if_pos rfl, fin_ok, run_seq, run_set, aF_e, kS_ok, sM_f13, run_seq, run_ex, aCall_nil, kE_ab]
  refine ctm_enter (by omega) hP (jfm.rf j) fun hop => ?_
  refine ctm_adv fun hlt => ?_
  have hlt : ps.1 < Tn tk := hlt
  have hP1 := hP.op hop hlt
  obtain ⟨_, _, _, ha1, _, _, hS1⟩ := id hP1
  rw [run_seq, run_opF, aK_e, kOF_ok, sM_f13, show oAdd (nI ps.1) 1 = nI (ps.1 + 1) from nI_1 _, sM_p13, run_seq, run_set, aSz_e, kS_ok, sM_R17, sM_o17, run_seq, run_if, m_eatB (by omega) hP1]
  have e14 : ∀ ps2 : PS, ps2.2.1 = ps.2.1 + 1 → oSub (nI ps2.2.1) 1 = nI (ps2.2.1 - 1) := fun ps2 h => nI_sub1 (by omega)
  cases h34 : sg tk (ps.1 + 1) 34 with
  | true =>
    have hlt1 : ps.1 + 1 < Tn tk := sg_lt h34
    have eu := m_unit12 (m := n) (ps := (ps.1 + 1 + 1, ps.2.1 + 1 - 1, ps.2.2)) (f := ((o, base), g)) (j := j) (p := nI ps.1) (by omega) (by omega)
    rw [if_pos rfl, kI_t, run_seq, run_opF, aK_e, kOF_ok, sM_f14, show oSub (nI (ps.2.1 + 1)) 1 = nI (ps.2.1 + 1 - 1) from nI_sub1 (by omega), sM_p14, run_ret, aCall_2, aK_e, ab_ok, aL_e, ab_ok]
    rw [show va_up (va_up (A0of true []) 1 (.int (nI ps.1))) 2 (.int (nI (o + base.length))) 1 = .int (nI ps.1) from rfl, eu, if_pos rfl]
    unfold pNeed
    rw [if_pos h34]
    exact ctm_ret (v := tUnit (nI ps.1)) (ps := (ps.1 + 1 + 1, ps.2.1 + 1 - 1, ps.2.2)) ((jfm.rf j).mk _) (by rw [mkN_nn]; dsimp only; omega)
  | false =>
    rw [if_neg (show ¬ false = true by decide), kI_f, run_skip, if_neg (show ¬ false = true by decide), run_seq, run_add, aCall_nil, kAD_ab]
    refine ctm_st hE hEg (by omega) (by omega) hP1 (jfm.rf j) fun t ps2 j2 g2 hP2 hj2 hB2 => ?_
    dsimp only at hB2
    obtain ⟨_, hT2, hps2, ha2, _, hfr2, hS2⟩ := id hP2
    have c1 := g2.1
    have o2 := g2.2.2.1
    dsimp only at c1 o2
    have hlen : o + base.length < ALM := by simp only [fSm] at hS; omega
    have hl : fSm ((o, base ++ [t].map tv), g) = fSm ((o, base), g) + 1 := by simp [fSm]; omega
    have hil0 : fSm ((o, base), g) = o + base.length + g.1 + g.2.length := rfl
    rw [ma17 hlen, og_ok, show base ++ [tv t] = base ++ [t].map tv from rfl, run_seq, run_if, mS n (by omega) ht hT2 ha2 41]
    have hP2' : PRM tk ps2 ((o, base ++ [t].map tv), g) j2 (n + 1) := hP2.mkf (jfm.rf (W := false) j2) (by rw [hl]; omega)
    cases h41 : sg tk ps2.1 41 with
    | true =>
      have h39 : sg tk ps2.1 39 = false := sg_ne h41 (by decide)
      rw [kI_t, if_neg (by rw [h39]; decide), if_pos (by rfl), run_seq, run_rn]
      refine m_sepsW (W := false) (Inv := fun L => L 1 = .int (nI ps.1) ∧ L 2 = .int (nI (o + base.length))) (by omega) (by omega) (m_exB hEg hE (by omega)) 99999 LF [t] ps2 j2 j _ _ nk nk (j2.nn + 100 * (Tn tk - ps2.1)) B _ (by decide) hP2' hj2 ⟨rfl, rfl⟩ (Nat.le_refl _) fun ts ps3 j3 L3 r1 r2 r3 r4 r5 => ?_
      rw [List.singleton_append] at r4 ⊢
      have hP3 : PRM tk ps3 ((o, base ++ (t :: ts).map tv), g) j3 (n + 1) := hP2.nxe r1 (hj2.l r2) r4
      have hil : fSm ((o, base ++ (t :: ts).map tv), g) = o + (base.length + (ts.length + 1)) + g.1 + g.2.length := by simp [fSm]
      rw [hil] at r4
      rw [run_seq, run_ex, aCall_1, aK_e, ab_ok, kE_ab]
      refine ctm_need (by omega) hP3 r2 fun hl3 => ?_
      have o3 := r1.2.2.1
      obtain ⟨cc, k1, k2⟩ := m_seqL (m := n) (ps := (ps3.1 + 1, ps3.2.1 - 1, ps3.2.2)) (j := j3) (by omega) (o := o) (base := base) (l := t :: ts) (p := nI ps.1) (g := g) (by simp) (by simp; omega) (by simp; omega) (by simp; omega)
      simp only [List.length_cons] at k1
      rw [run_seq, run_opF, aK_e, kOF_ok, sM_f14, e14 ps3 (by omega), sM_p14, run_ret, aCall_2, aL_e, ab_ok, aL_e, ab_ok, r5.1, r5.2, k2]
      exact ctm_ret (v := tSqL (nI ps.1) (t :: ts)) (ps := (ps3.1 + 1, ps3.2.1 - 1, ps3.2.2)) (r2.mk _) (by rw [mkN_nn]; dsimp only; omega)
    | false =>
      have eP : (if sg tk ps2.1 39 = true then pb (pSeps tk 39 E LF) (fun ts => pNeed tk 34 (pLeave (pret (tBr false (t :: ts) (nI ps.1))))) ps2 else if (false && !false) = true then pb (pSeps tk 41 E LF) (fun ts => pNeed tk 34 (pLeave (pret (tSqL (nI ps.1) (t :: ts))))) ps2 else pNeed tk 34 (pLeave (pret t)) ps2) = pb (pSeps tk 39 E LF) (fun ts => pNeed tk 34 (pLeave (pret (if ts = [] then t else tBr false (t :: ts) (nI ps.1))))) ps2 := by
        cases h39 : sg tk ps2.1 39 with
        | true =>
          rw [if_pos rfl]
          exact seps_ne h39 (fun u ts => by simp)
        | false =>
          rw [if_neg (show ¬ false = true by decide), pb_val (v := []) (ps' := ps2) (seps_stop h39)]
          rfl
      rw [eP, kI_f, run_skip, run_seq, run_rn]
      refine m_sepsW (W := false) (Inv := fun L => L 1 = .int (nI ps.1) ∧ L 2 = .int (nI (o + base.length))) (by omega) (by omega) (m_exB hEg hE (by omega)) 99999 LF [t] ps2 j2 j _ _ nk nk (j2.nn + 100 * (Tn tk - ps2.1)) B _ (by decide) hP2' hj2 ⟨rfl, rfl⟩ (Nat.le_refl _) fun ts ps3 j3 L3 r1 r2 r3 r4 r5 => ?_
      rw [List.singleton_append] at r4 ⊢
      have hP3 : PRM tk ps3 ((o, base ++ (t :: ts).map tv), g) j3 (n + 1) := hP2.nxe r1 (hj2.l r2) r4
      have hil : fSm ((o, base ++ (t :: ts).map tv), g) = o + (base.length + (ts.length + 1)) + g.1 + g.2.length := by simp [fSm]
      rw [hil] at r4
      rw [run_seq, run_ex, aCall_1, aK_e, ab_ok, kE_ab]
      refine ctm_need (by omega) hP3 r2 fun hl3 => ?_
      have o3 := r1.2.2.1
      rw [run_seq, run_opF, aK_e, kOF_ok, sM_f14, e14 ps3 (by omega), sM_p14, run_ret]
      show CTm false tv tk ((o, base), g) j B _ (some (.inl (if ts = [] then t else tBr false (t :: ts) (nI ps.1), (ps3.1 + 1, ps3.2.1 - 1, ps3.2.2))))
      unfold aIf
      rw [m_one (o := o) (base := base) (t := t) (ts := ts) (by omega) 2 r5.2, ab_ok]
      cases ts with
      | nil =>
        rw [if_pos (by decide), if_pos rfl, show base ++ [t].map tv = base ++ [tv t] from rfl, mp17]
        exact ctm_ret (ps := (ps3.1 + 1, ps3.2.1 - 1, ps3.2.2)) r2 (by simp at r3; dsimp only; omega)
      | cons u ts =>
        have e47 := m_tuple (m := n) (ps := (ps3.1 + 1, ps3.2.1 - 1, ps3.2.2)) (j := j3) (o := o) (base := base) (items := t :: u :: ts) (fk := 13) (k := 12) (p := nI ps.1) (g := g) (by omega) (by decide) (by decide) (by decide) (by simp at r4 ⊢; omega) (by simp at r4 ⊢; omega) (by simp at r4 r3 ⊢; omega)
        rw [if_neg (by simp), if_neg (by simp)]
        simp only [aCall, aArgs, aK, aL, ab_ok, r5.1, r5.2, e47]
        exact ctm_ret (v := tBr false (t :: u :: ts) (nI ps.1)) (ps := (ps3.1 + 1, ps3.2.1 - 1, ps3.2.2)) (r2.mk _) (by simp at r3; simp only [mkN_nn, List.length_cons]; omega)
/-- the items of a list: they are laid down -/
theorem m_items {E : PA TR} {c o : Nat} {base : List V} {gg : Nat × List V} {F : List TR → PA β} {g0 : V → AS → Option (Option V × AS)} (hEg : PGr tk E) (hE : CoM false tv tk c 30 12 [] E) (hn : max c 5 + 1 ≤ n) (hP : PRM tk ps ((o, base), gg) j (n + 1)) (hj : jfm false j0 j) (ho1 : 1 ≤ ps.2.1)
    (hK : ∀ l ps' j', PGe tk ps ps' → ps'.1 < Tn tk → jfm false j0 j' → j'.nn + 100 * (Tn tk - ps'.1) + 30 * l.length ≤ j.nn + 100 * (Tn tk - ps.1) → fSm ((o, base ++ l.map tv), gg) + j'.nn + 8 * n + 100 * (Tn tk - ps'.1) ≤ 29000 → CTm false em2 tk fo j0 B (g0 (.int 0) (stM (ps'.1 + 1, ps'.2.1 - 1, ps'.2.2) ((o, base ++ l.map tv), gg) j')) (F l (ps'.1 + 1, ps'.2.1 - 1, ps'.2.2))) :
    CTm false em2 tk fo j0 B (ab (aM n 59 [.int 36] (stM ps ((o, base), gg) j)) g0) (pb (fun ps1 => if sg tk ps1.1 36 = true then some (.inl ([], ps1)) else pb E (fun t => pb (pSeps tk 39 E LF) fun ts => pret (t :: ts)) ps1) (fun l => pNeed tk 36 (pLeave (F l))) ps) := by
  obtain ⟨n, rfl⟩ := suc1 (m := n) (by omega)
  have hP0 := hP.dn
  obtain ⟨ht, hT, hps, ha, hop0, hfr, hS⟩ := id hP0
  have hA : ALM = 30000 := rfl
  have e2 : ∀ L : AL, L 1 = .int 36 → bNot (bZ .ne (aCall (aM n) 6 [(aL 1)])) L (stM ps ((o, base), gg) j) = some (some (!sg tk ps.1 36), stM ps ((o, base), gg) j) := by
    intro L h
    refine bNot_e (bZn_e ?_)
    rw [aCall_1, aL_e, h, ab_ok]
    exact m_is (by omega) ht hT ha 36
  rw [eM_items, zM_items, amth_run, if_pos (show [Term.int 36].length = 1 from rfl), fin_void, ab_ab]
  simp only [ab_ok]
  rw [run_seq, run_if, e2 _ rfl]
  have fin : ∀ (l : List TR) (ps2 : PS) (j2 : AS) (L : AL), PGe tk ps ps2 → jfm false j0 j2 → j2.nn + 100 * (Tn tk - ps2.1) + 30 * l.length ≤ j.nn + 100 * (Tn tk - ps.1) → fSm ((o, base ++ l.map tv), gg) + j2.nn + 8 * (n + 1) + 100 * (Tn tk - ps2.1) ≤ 29000 → L 1 = .int 36 →
      CTm false em2 tk fo j0 B (ab (run [zSeq (zEx (aCall (aM n) 33 [(aL 1)])) (zSeq (zOpF oSub 14 (aK 1)) zRet0)] nk L (stM ps2 ((o, base ++ l.map tv), gg) j2)) fun _ A => g0 (.int 0) A) (pNeed tk 36 (pLeave (F l)) ps2) := by
    intro l ps2 j2 L g2 hj2 hB2 hS2 l1
    have hP2 : PRM tk ps2 ((o, base ++ l.map tv), gg) j2 (n + 1) := hP0.nxe g2 (hj.l hj2) hS2
    rw [run_seq, run_ex, aCall_1, aL_e, l1, ab_ok, kE_ab, ab_ab]
    refine ctm_need (by omega) hP2 hj2 fun hlt2 => ?_
    have o2 := g2.2.2.1
    rw [run_seq, run_opF, aK_e, kOF_ok, sM_f14, show oSub (nI ps2.2.1) 1 = nI (ps2.2.1 - 1) from nI_sub1 (by omega), sM_p14, run_ret0, ab_ok]
    exact hK l ps2 j2 g2 hlt2 hj2 hB2 (by omega)
  cases h36 : sg tk ps.1 36 with
  | true =>
    rw [Bool.not_true, kI_f, run_skip, pb_val (v := []) (ps' := ps) (by simp only [h36, if_true])]
    have := fin [] ps j (A0of true [.int 36]) (PGe.rf hps ha) hj (by simp) (by simpa using hS) rfl
    simpa using this
  | false =>
    rw [Bool.not_false, kI_t, run_rn, rn_ab (nrt_do _ _ _ _ _ _), pb_at (p' := pb E (fun t => pb (pSeps tk 39 E LF) fun ts => pret (t :: ts))) (ps' := ps) (by simp only [h36, Bool.false_eq_true, if_false]), pb_pb]
    have e : ∀ t, pb (pb (pSeps tk 39 E LF) fun ts => pret (t :: ts)) (fun l => pNeed tk 36 (pLeave (F l))) = pb (pSeps tk 39 E LF) fun ts => pNeed tk 36 (pLeave (F (t :: ts))) := by
      intro t
      rw [pb_pb]
      rfl
    simp only [e]
    have hP' : PRM tk ps ((o, base ++ ([] : List TR).map tv), gg) j (n + 1) := by simpa using hP0
    have := m_seps (em := em2) (fo := fo) (W := false) (s := 39) (o := o) (base := base) (g := gg) (by omega) (by omega) (by omega) (m_exB (Inv := fun L => L 1 = .int 36) hEg hE (by omega)) LN LF [] ps j j0 (A0of true [.int 36]) (fun L A => ab (run [zSeq (zEx (aCall (aM n) 33 [(aL 1)])) (zSeq (zOpF oSub 14 (aK 1)) zRet0)] nk L A) fun _ A => g0 (.int 0) A) (fun L A => ab (nk L A) fun _ A => g0 (.int 0) A) (fun L A => ab (nk L A) fun _ A => g0 (.int 0) A) (j.nn + 100 * (Tn tk - ps.1)) B (fun t ts => pNeed tk 36 (pLeave (F (t :: ts)))) (by decide) hP' hj rfl (Nat.le_refl _) (fun t ts ps2 j2 L2 r1 r2 r3 r4 r5 r6 => fin (t :: ts) ps2 j2 L2 r1.e r2 (by simp; omega) (by simpa using r4) r5)
    simpa using this
end MRD
