/-! M: heads of clauses -/
theorem nrt_wh (k : Nat) (a : AX) (c : BX) : ∀ (N : Nat) (L : AL) (A : AS) (f : Nat × V) (L' : AL) (A' : AS), zWh N c (zAdd k a) zSkip L A = some (f, L', A') → f.1 ≠ 1 := by
  intro N
  induction N with
  | zero => intro L A f L' A' h; cases h
  | succ N ih =>
    intro L A f L' A' h
    unfold zWh at h
    match hc : c L A with
    | none => rw [hc] at h; cases h
    | some (none, A2) =>
      rw [hc] at h
      cases h
      show (2 : Nat) ≠ 1
      decide
    | some (some false, A2) =>
      rw [hc] at h
      cases h
      show (0 : Nat) ≠ 1
      decide
    | some (some true, A2) =>
      rw [hc] at h
      have h : (match zAdd k a L A2 with
      | none => none
      | some (f, L, A) => if f.1 = 0 ∨ f.1 = 4 then (match zSkip L A with
          | none => none
          | some (g, L, A) => if g.1 = 0 then zWh N c (zAdd k a) zSkip L A else some (g, L, A))
        else if f.1 = 3 then some ((0, .int 0), L, A) else some (f, L, A)) = some (f, L', A') := h
      match hb : zAdd k a L A2 with
      | none => rw [hb] at h; cases h
      | some (g, L1, A1) =>
        rw [hb] at h
        have hg := nrt_add k a L A2 g L1 A1 hb
        dsimp only at h
        split at h
        · exact ih _ _ _ _ _ h
        · split at h
          · cases h
            show (0 : Nat) ≠ 1
            decide
          · cases h
            exact hg
theorem THM.wk {W : Bool} {j : AS} {e : FT} {A : AS} (h : THM W j e A) : THM false j e A := ⟨h.1, h.2.1, fun k h1 h2 h3 h4 h5 h6 hw => h.2.2.1 k h1 h2 h3 h4 h5 h6 (fun e => by have := hw e; cases this), h.2.2.2⟩
section MHD
variable {α β : Type} {em : α → V} {em2 : β → V} {tk : TK} {f f1 f' fo : FM} {j j1 j' j0 : AS} {B B1 a : Nat} {r : Option (Option V × AS)} {ps ps' : PS} {m n k k' : Nat} {LV : AL} {zs : List ZX} {aq ap : PA TR} {c b o : Nat} {row : List V} {gg : Nat × List V}
/-- a step that keeps the fields 20 and 21 -/
theorem ctm_stT {F : TR → PA β} {g : V → AS → Option (Option V × AS)} (hc : CoM true tv tk c 60 25 [] ap) (hg : PGt tk ap) (hn : c ≤ n) (hP : PRM tk ps f j (n + 1)) (hj : jfm false j0 j)
    (h : ∀ v a j', ps.1 < a → a ≤ Tn tk → PRM tk (a, ps.2) f j' (n + 1) → jfm true j j' → j'.nn + 100 * (Tn tk - a) + 60 ≤ j.nn + 100 * (Tn tk - ps.1) → CTm false em2 tk fo j0 B (g (tv v) (stM (a, ps.2) f j')) (F v (a, ps.2))) : CTm false em2 tk fo j0 B (ab (aM n 25 [] (stM ps f j)) g) (pb ap F ps) := by
  have hS := hP.2.2.2.2.2.2
  have hct := hc n ps f j (j.nn + 100 * (Tn tk - ps.1) - 60) hn hP.dn (by omega)
  unfold pb
  cases hp : ap ps with
  | none => exact trivial
  | some q =>
    rw [hp] at hct
    match q, hp, hct with
    | .inr e, _, hct =>
      obtain ⟨A', e1, q1⟩ := hct
      rw [e1]
      exact ⟨A', rfl, q1.wk.l hj⟩
    | .inl (v, (a, s)), hp, hct =>
      obtain ⟨j', e1, q1, q2⟩ := hct
      obtain ⟨g1, g2, g3⟩ := hg ps v (a, s) hp
      dsimp only at g1 g2 g3 q2
      subst g3
      rw [e1, ab_ok]
      exact h v a j' g1 g2 (hP.at (Nat.le_of_lt g1) g2 q1 (by omega)) q1 (by omega)
theorem m_apB (hn : 5 ≤ n) (hP : PRM tk ps f j k) (L : AL) : bZ .ne (aCall (aM n) 52 []) L (stM ps f j) = some (some (begP tk ps), stM ps f j) := aCall0_b (m_isAp hn hP.1 hP.2.1 hP.2.2.2.1 hP.2.2.1)
theorem m_argsW {K B0 C0 : KT} (hap : CoM true tv tk c 60 25 [] ap) (hq : PGt tk ap) (hn : max c 5 ≤ n) (N : Nat) : ∀ (M : Nat) (row : List V) (ps : PS) (j : AS) (F : List TR → PA β), M ≤ N → PRM tk ps ((o, row), gg) j (n + 1) → jfm false j0 j →
    (∀ ts a j', ps.1 ≤ a → a ≤ Tn tk → jfm true j j' → j'.nn + 100 * (Tn tk - a) + 50 * ts.length ≤ j.nn + 100 * (Tn tk - ps.1) → PRM tk (a, ps.2) ((o, row ++ ts.map tv), gg) j' (n + 1) → CTm false em2 tk fo j0 B (K LV (stM (a, ps.2) ((o, row ++ ts.map tv), gg) j')) (F ts (a, ps.2))) →
    CTm false em2 tk fo j0 B (rn (zWh (N + 1) (bZ .ne (aCall (aM n) 52 [])) (zAdd 17 (aCall (aM n) 25 [])) zSkip LV (stM ps ((o, row), gg) j)) K B0 C0) (pb (pArgs tk ap M) F ps) := by
  induction N with
  | zero =>
    intro M row ps j F hM
    have : M = 0 := by omega
    subst this
    intros
    exact trivial
  | succ N ih =>
    intro M row ps j F hM hP hj hK
    cases M with
    | zero => exact trivial
    | succ M =>
      obtain ⟨ht, hT, hps, ha, hop, hfr, hS⟩ := id hP
      have hA : ALM = 30000 := rfl
      rw [rn_wh, m_apB (by omega) hP, ab_ok]
      cases hc : begP tk ps with
      | false =>
        rw [pb_val (v := []) (ps' := ps) (by simp only [pArgs, hc, Bool.false_eq_true, if_false]), if_neg (by decide)]
        have := hK [] ps.1 j (Nat.le_refl _) ha (jfm.rf j) (by simp) (by simpa using hP)
        simpa using this
      | true =>
        rw [pb_at (p' := pb ap fun t => pb (pArgs tk ap M) fun l => pret (t :: l)) (ps' := ps) (by simp only [pArgs, hc, if_true]), pb_pb, if_pos rfl, rn_add, aCall_nil]
        refine ctm_stT hap hq (by omega) hP hj fun t a j' h1 h2 hP1 h3 h4 => ?_
        have hlen : o + row.length < ALM := by simp only [fSm] at hS; omega
        have hl : fSm ((o, row ++ [tv t]), gg) = fSm ((o, row), gg) + 1 := by simp [fSm]; omega
        rw [ma17 hlen, og_ok, pb_pb, rn_skip]
        refine ih M (row ++ [tv t]) (a, ps.2) j' _ (by omega) (hP1.mkf (jfm.rf (W := true) _) (by rw [hl]; dsimp only; omega)) (hj.trans h3.wk) fun ts a' j'' r1 r2 r3 r4 r5 => ?_
        dsimp only at r1 r4 r5
        have := hK (t :: ts) a' j'' (by omega) r2 (h3.trans r3) (by rw [List.length_cons]; omega) (by simpa using r5)
        simpa [pret_pb] using this
theorem m_argsD {K B0 C0 : KT} (hap : CoM true tv tk c 60 25 [] ap) (hq : PGt tk ap) (hn : max c 5 ≤ n) (N : Nat) : ∀ (M : Nat) (row : List V) (ps : PS) (j : AS) (F : List TR → PA β), M + 1 ≤ N → PRM tk ps ((o, row), gg) j (n + 1) → jfm false j0 j →
    (∀ ts a j', ps.1 < a → a ≤ Tn tk → 1 ≤ ts.length → jfm true j j' → j'.nn + 100 * (Tn tk - a) + 50 * ts.length ≤ j.nn + 100 * (Tn tk - ps.1) → PRM tk (a, ps.2) ((o, row ++ ts.map tv), gg) j' (n + 1) → CTm false em2 tk fo j0 B (K LV (stM (a, ps.2) ((o, row ++ ts.map tv), gg) j')) (F ts (a, ps.2))) →
    CTm false em2 tk fo j0 B (rn (zDo N (zAdd 17 (aCall (aM n) 25 [])) (bZ .ne (aCall (aM n) 52 [])) LV (stM ps ((o, row), gg) j)) K B0 C0) (pb ap (fun t => pb (pArgs tk ap M) fun l => F (t :: l)) ps) := by
  induction N with
  | zero =>
    intro M row ps j F hM
    omega
  | succ N ih =>
    intro M row ps j F hM hP hj hK
    obtain ⟨ht, hT, hps, ha, hop, hfr, hS⟩ := id hP
    have hA : ALM = 30000 := rfl
    rw [rn_do, rn_add, aCall_nil]
    refine ctm_stT hap hq (by omega) hP hj fun t a j' h1 h2 hP1 h3 h4 => ?_
    have hlen : o + row.length < ALM := by simp only [fSm] at hS; omega
    have hl : fSm ((o, row ++ [tv t]), gg) = fSm ((o, row), gg) + 1 := by simp [fSm]; omega
    rw [ma17 hlen, og_ok]
    have hP2 : PRM tk (a, ps.2) ((o, row ++ [tv t]), gg) j' (n + 1) := hP1.mkf (jfm.rf (W := true) _) (by rw [hl]; dsimp only; omega)
    rw [m_apB (by omega) hP2, ab_ok]
    cases M with
    | zero => exact trivial
    | succ M =>
      cases hc : begP tk (a, ps.2) with
      | false =>
        rw [pb_val (v := []) (ps' := (a, ps.2)) (by simp only [pArgs, hc, Bool.false_eq_true, if_false]), if_neg (by decide)]
        exact hK [t] a j' h1 h2 (by simp) h3 (by simp; omega) hP2
      | true =>
        rw [pb_at (p' := pb ap fun u => pb (pArgs tk ap M) fun l => pret (u :: l)) (ps' := (a, ps.2)) (by simp only [pArgs, hc, if_true]), pb_pb, if_pos rfl]
        have e : ∀ u, pb (pb (pArgs tk ap M) fun l => pret (u :: l)) (fun l => F (t :: l)) = pb (pArgs tk ap M) fun l => F (t :: u :: l) := by
          intro u
          rw [pb_pb]
          rfl
        simp only [e]
        refine ih M (row ++ [tv t]) (a, ps.2) j' (fun l => F (t :: l)) (by omega) hP2 (hj.trans h3.wk) fun ts a' j'' r1 r2 r3 r4 r5 r6 => ?_
        dsimp only at r1 r5 r6
        have := hK (t :: ts) a' j'' (by omega) r2 (by simp) (h3.trans r4) (by rw [List.length_cons]; omega) (by simpa using r6)
        simpa using this
theorem try_none (h : pTry tk aq ps = some (.inl (none, ps'))) : ps' = ps := by
  unfold pTry pEnter at h
  split at h
  · unfold pAdv at h
    split at h
    · dsimp only at h
      split at h
      · obtain ⟨one, q2, h1, h⟩ := pb_inv h
        split at h
        · split at h
          · obtain ⟨two, q4, h3, h⟩ := pb_inv h
            split at h
            · cases h
            · cases h; rfl
          · cases h; rfl
        · cases h; rfl
      · cases h; rfl
    · cases h
  · cases h
theorem try_some {nm : Int32} {t : TR} (h : pTry tk aq ps = some (.inl (some (nm, t), ps'))) : ps.2.1 < 32 ∧ ∃ one q2 two q4, aq (ps.1 + 1, ps.2.1 + 1, ps.2.2) = some (.inl (one, q2)) ∧ oprB tk q2.2.2.2.1 q2.1 = true ∧ aq (q2.1 + 1, q2.2) = some (.inl (two, q4)) ∧ sg tk q4.1 34 = true ∧ nm = vAt tk q2.1 ∧ t = tPair true one two (nI ps.1) ∧ ps' = (q4.1 + 1, q4.2.1 - 1, q4.2.2) := by
  unfold pTry pEnter at h
  split at h
  · next ho =>
    refine ⟨ho, ?_⟩
    unfold pAdv at h
    split at h
    · dsimp only at h
      split at h
      · obtain ⟨one, q2, h1, h⟩ := pb_inv h
        split at h
        · next hop =>
          split at h
          · obtain ⟨two, q4, h3, h⟩ := pb_inv h
            split at h
            · next h34 =>
              cases h
              rw [Bool.and_eq_true] at h34
              exact ⟨one, q2, two, q4, h1, hop, h3, h34.1, rfl, rfl, rfl⟩
            · cases h
          · cases h
        · cases h
      · cases h
    · cases h
  · cases h
theorem m_operator (hm : 4 ≤ m) (hP : PRM tk ps f j k) : aM m 76 [] (stM ps f j) = if oprB tk ps.2.2.2.1 ps.1 = true then some (some (.int (vAt tk ps.1)), stM (ps.1 + 1, ps.2) f j) else some (none, ftM (stM ps f j) 1) := by
  obtain ⟨n, rfl⟩ := suc1 (m := m) (by omega)
  obtain ⟨ht, hT, hps, ha, hop, hfr, hS⟩ := id hP
  rw [eM_operator, zM_operator, amth_run, List.length_nil, if_pos rfl, fin_ok, run_seq, run_if, bNot_e (mO n (by omega) ht hT ha hps)]
  cases h : oprB tk ps.2.2.2.1 ps.1 with
  | false =>
    rw [Bool.not_false, kI_t, run_ex, aCall_nil, m_stop (by omega), kE_no]
    rfl
  | true =>
    rw [Bool.not_true, kI_f, run_skip, run_seq, run_opF, aK_e, kOF_ok, sM_f13, show oAdd (nI ps.1) 1 = nI (ps.1 + 1) from nI_1 _, sM_p13, run_ret, m_last ht hT (opr_lt h)]
    rfl
/-- an operator between two patterns -/
theorem m_headB {F : Int32 × List TR → PA β} {g : V → AS → Option (Option V × AS)} (hap : CoM true tv tk c 60 25 [] ap) (hq : PGt tk ap) (hn : max c 5 ≤ n) (hP : PRM tk ps ((o, row), gg) j (n + 1)) (hj : jfm false j0 j) (l1 : LV 1 = .int (nI ps.1)) (l3 : LV 3 = .int 0)
    (hK : ∀ nm ts a j', ps.1 < a → a ≤ Tn tk → 1 ≤ ts.length → jfm true j j' → 0 ≤ nm ∧ nm ≤ 8191 → j'.nn + 100 * (Tn tk - a) + 50 * ts.length ≤ j.nn + 100 * (Tn tk - ps.1) → CTm false em2 tk fo j0 B (g (.int nm) (stM (a, ps.2) ((o, row ++ ts.map tv), gg) j')) (F (nm, ts) (a, ps.2))) :
    CTm false em2 tk fo j0 B (ab (run [zSeq (zSet 4 (aCall (aM n) 25 [])) (zSeq (zSet 5 (aCall (aM n) 76 [])) (zSeq (zSet 6 (aCall (aM n) 25 [])) (zSeq (zAdd 17 (aCall (aM n) 50 [(aK 33), (aL 4), (aL 6), (aL 1)])) (zSeq (zIf (bZ .ne (aL 3)) (zSeq (zEx (aCall (aM n) 33 [(aK 34)])) (zSeq (zOpF oSub 14 (aK 1)) (zWh LN (bZ .ne (aCall (aM n) 52 [])) (zAdd 17 (aCall (aM n) 25 [])) zSkip))) zSkip) (zRet (aL 5))))))] nk LV (stM ps ((o, row), gg) j)) g)
      (pb (pb ap fun one ps2 => if oprB tk ps2.2.2.2.1 ps2.1 = true then pb ap (fun two => pret (vAt tk ps2.1, [tPair true one two (nI ps.1)])) (ps2.1 + 1, ps2.2) else pflt 1 ps2) F ps) := by
  obtain ⟨ht, hT, hps, ha, hop, hfr, hS⟩ := id hP
  have hA : ALM = 30000 := rfl
  rw [pb_pb, run_seq, run_set, aCall_nil, kS_ab, ab_ab]
  refine ctm_stT hap hq (by omega) hP hj fun one a j1 h1 h2 hP1 h3 h4 => ?_
  rw [run_seq, run_set, aCall_nil, m_operator (by omega) hP1]
  cases hb : oprB tk (a, ps.2).2.2.2.1 (a, ps.2).1 with
  | false =>
    rw [if_neg (show ¬ false = true by decide), kS_no, ab_no, pb_at (p' := pflt 1) (ps' := (a, ps.2)) (by simp only [hb, Bool.false_eq_true, if_false])]
    exact ctm_flt (hj.trans h3.wk)
  | true =>
    have hlt : a < Tn tk := opr_lt hb
    rw [if_pos rfl, kS_ok, run_seq, run_set, aCall_nil, kS_ab, ab_ab, pb_at (p' := pb ap (fun two => pret (vAt tk a, [tPair true one two (nI ps.1)]))) (ps' := (a + 1, ps.2)) (by simp only [hb, if_true]), pb_pb]
    refine ctm_stT hap hq (by omega) (hP1.one hlt) (hj.trans h3.wk) fun two a2 j2 k1 k2 hP2 k3 k4 => ?_
    dsimp only at k1 k4 hP2 ⊢
    have hS2 := hP2.2.2.2.2.2.2
    have hlen : o + row.length < ALM := by simp only [fSm] at hS; omega
    have ecp : ∀ L : AL, L 4 = tv one → L 6 = tv two → L 1 = .int (nI ps.1) → aCall (aM n) 50 [(aK 33), (aL 4), (aL 6), (aL 1)] L (stM (a2, ps.2) ((o, row), gg) j2) = some (some (tv (tPair true one two (nI ps.1))), stM (a2, ps.2) ((o, row), gg) (mkN j2 5)) := by
      intro L q4 q6 q1
      have := m_couple (m := n) (ps := (a2, ps.2)) (f := ((o, row), gg)) (j := j2) (q := true) (one := one) (two := two) (p := nI ps.1) (by omega) (by dsimp only at hS2; omega)
      simp only [aCall, aArgs, aK_e, aL_e, ab_ok, q4, q6, q1]
      exact this
    rw [run_seq, run_add, ecp _ rfl rfl (by simpa [va_up] using l1), kAD_ok, ma17 hlen, og_ok, run_seq, run_if, bZn_e (x := false) (by rw [aL_e]; show some (some (LV 3), _) = _; rw [l3]; rfl), kI_f, run_skip, run_ret, aL_e, ab_ok, pret_pb]
    obtain ⟨w1, w2⟩ : 0 ≤ vAt tk a ∧ vAt tk a ≤ 8191 := by
      have hb' := hb
      unfold oprB at hb'
      rw [Bool.and_eq_true] at hb'
      exact (nm_val ht hb'.1).2
    exact hK (vAt tk a) [tPair true one two (nI ps.1)] a2 (mkN j2 5) (by omega) k2 (by simp) ((h3.trans k3).mk 5) ⟨w1, w2⟩ (by rw [mkN_nn]; simp; omega)
theorem idV_nn {q : Bool} {v : Int32 × Int32} (ht : tkOK tk) (h : idV tk q ps = some (.inl (v, ps'))) (hc : (sg tk ps.1 22 || nmB tk ps.1) = true) : 0 ≤ v.1 := by
  unfold idV at h
  split at h
  · split at h
    · split at h
      · cases h
      · cases h; decide
    · split at h
      · next hn => cases h; exact (nm_val ht hn).2.1
      · cases h
  · next h22 =>
    rw [Bool.not_eq_true] at h22
    rw [h22, Bool.false_or] at hc
    have hk : kAt tk ps.1 = 2 ∨ kAt tk ps.1 = 3 := by simpa [nmB] using hc
    split at h
    · next h5 => rw [h5] at hk; rcases hk with hk | hk <;> cases hk
    · cases h
      exact (nm_val ht hc).2.1
theorem head_id (hc : (sg tk ps.1 22 || (nmB tk ps.1 && !oprB tk ps.2.2.2.1 ps.1 && !oprB tk ps.2.2.2.1 (ps.1 + 1))) = true) : pHead tk aq ap ps = pb (idV tk false) (fun v => pb ap fun t => pb (pArgs tk ap LF) fun l => pret (v.1, t :: l)) ps := by
  unfold pHead
  rw [if_pos hc]
  cases h22 : sg tk ps.1 22 with
  | true =>
    cases h45 : sg tk (ps.1 + 1) 45 with
    | true => simp [idV, pb_val, h22, h45, pb]
    | false => cases hn : nmB tk (ps.1 + 1) <;> simp [idV, h22, h45, hn, pb, pflt]
  | false =>
    rw [h22, Bool.false_or] at hc
    have hn : nmB tk ps.1 = true := by
      rw [Bool.and_eq_true, Bool.and_eq_true] at hc
      exact hc.1.1
    have hk : kAt tk ps.1 = 2 ∨ kAt tk ps.1 = 3 := by simpa [nmB] using hn
    have h5 : ¬ kAt tk ps.1 = 5 := by rcases hk with hk | hk <;> rw [hk] <;> decide
    simp [idV, h22, hn, h5, pb]
end MHD
