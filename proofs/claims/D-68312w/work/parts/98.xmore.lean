/-! X: loops over things with a sign between; rules -/
def CoG {α : Type} (em : α → V) (tk : TK) (c s t : Nat) (vs : List V) (p : PA α) : Prop := ∀ k ps f j B, c ≤ k → PRX tk ps f j k → j.nn + 100 * (Tn tk - ps.1) ≤ B + s → CTx false em tk f j B (aX k t vs (stX tk ps f j)) (p ps)
def CoD {α : Type} (em : α → V) (tk : TK) (c t : Nat) (vs : List V) (p : PA α) : Prop := ∀ k ps f j B, c ≤ k → PRX tk ps f j k → j.nn + 100 * (Tn tk - ps.1) + 1 ≤ B → CTx false em tk f j B (aX k t vs (stX tk ps f j)) (p ps)
section XMO
variable {tk : TK} {ps ps' : PS} {f f1 f' : FX} {j j1 j' : AS} {m n k k' : Nat} {A : AS} {α β : Type} {em : α → V} {em2 : β → V} {B B1 : Nat} {r : Option (Option V × AS)}
theorem ctx_grE {p : PA α} (h : CTx false em tk f j B r (p ps)) : CTx false em tk f j B r (grE tk p ps) := by
  unfold grE
  cases hp : p ps with
  | none => exact trivial
  | some q =>
    rw [hp] at h
    match q, h with
    | .inr e, h => exact h
    | .inl (v, ps'), h =>
      dsimp only
      split
      · exact h
      · exact trivial
theorem ctx_grD {p : PA α} (h : CTx false em tk f j B r (p ps)) : CTx false em tk f j B r (grD tk p ps) := by
  unfold grD
  cases hp : p ps with
  | none => exact trivial
  | some q =>
    rw [hp] at h
    match q, h with
    | .inr e, h => exact h
    | .inl (v, ps'), h =>
      dsimp only
      split
      · exact h
      · exact trivial
theorem ctx_bindE {p : PA α} {F : α → PA β} {g : V → AS → Option (Option V × AS)} (hj : je false j j1) (h : CTx false em tk f1 j1 B1 r (grE tk p ps))
    (hk : ∀ v ps' j', PG tk ps ps' → je false j j' → j'.nn + 100 * (Tn tk - ps'.1) ≤ B1 → CTx false em2 tk f j B (g (em v) (stX tk ps' f1 j')) (F v ps')) : CTx false em2 tk f j B (ab r g) (pb (grE tk p) F ps) :=
  ctx_bind hj h fun v ps' j' hp hj' hB => hk v ps' j' (grE_ok hp) hj' hB
theorem ctx_bindD {p : PA α} {F : α → PA β} {g : V → AS → Option (Option V × AS)} (hj : je false j j1) (h : CTx false em tk f1 j1 B1 r (grD tk p ps))
    (hk : ∀ v ps' j', PGe tk ps ps' → je false j j' → j'.nn + 100 * (Tn tk - ps'.1) ≤ B1 → CTx false em2 tk f j B (g (em v) (stX tk ps' f1 j')) (F v ps')) : CTx false em2 tk f j B (ab r g) (pb (grD tk p) F ps) :=
  ctx_bind hj h fun v ps' j' hp hj' hB => hk v ps' j' (grD_ok hp) hj' hB
theorem pgr_grE {p : PA TR} : PGr tk (grE tk p) := fun _ _ _ _ h => grE_ok h
theorem PG.trans {a b c : PS} (h : PGe tk a b) (h' : PG tk b c) : PG tk a c := by
  obtain ⟨a1, a2, a3, a4, a5⟩ := h
  obtain ⟨b1, b2, b3, b4, b5⟩ := h'
  exact ⟨by omega, b2, b3.trans a3, by omega, b5⟩
theorem PGe.trans {a b c : PS} (h : PGe tk a b) (h' : PGe tk b c) : PGe tk a c := by
  obtain ⟨a1, a2, a3, a4, a5⟩ := h
  obtain ⟨b1, b2, b3, b4, b5⟩ := h'
  exact ⟨by omega, b2, b3.trans a3, by omega, b5⟩
theorem PG.trans' {a b c : PS} (h : PG tk a b) (h' : PGe tk b c) : PG tk a c := by
  obtain ⟨a1, a2, a3, a4, a5⟩ := h
  obtain ⟨b1, b2, b3, b4, b5⟩ := h'
  exact ⟨by omega, b2, b3.trans a3, by omega, b5⟩
/-- one token -/
theorem PG.one (hps : psOK ps.2.2.2) (h : ps.1 < Tn tk) : PG tk ps (ps.1 + 1, ps.2) := ⟨Nat.lt_succ_self _, h, rfl, by dsimp only; omega, hps⟩
def BodyM (tk : TK) (n o : Nat) (base : List V) (g : (Nat × List V) × (Nat × List V)) (s : Int32) (p : PA TR) (Inv : AL → Prop) (fl : Nat) (body : ZX) : Prop :=
  ∀ (α : Type) (em : α → V) (fo : FX) (F : TR → PA α) (don : List TR) (ps : PS) (j j0 : AS) (LV : AL) (K B0 C0 : KT) (B : Nat),
    PRX tk ps ((o, base ++ don.map tv), g) j (n + 1) → je false j0 j → Inv LV →
    (∀ t ps' j' LV', PG tk ps ps' → je false j0 j' → j'.nn + 100 * (Tn tk - ps'.1) + 60 ≤ j.nn + 100 * (Tn tk - ps.1) → Inv LV' → LV' fl = .int (b2i (sg tk ps'.1 s)) →
      CTx false em tk fo j0 B (K LV' (stX tk (if sg tk ps'.1 s = true then (ps'.1 + 1, ps'.2) else ps') ((o, base ++ (don ++ [t]).map tv), g) j')) (F t ps')) →
    CTx false em tk fo j0 B (rn (body LV (stX tk ps ((o, base ++ don.map tv), g) j)) K B0 C0) (pb p F ps)
theorem x_more {o : Nat} {base : List V} {g : (Nat × List V) × (Nat × List V)} {s : Int32} {p : PA TR} {Inv : AL → Prop} {fl : Nat} {body : ZX} {fo : FX} (hb : BodyM tk n o base g s p Inv fl body) (N : Nat) :
    ∀ (M : Nat) (don : List TR) (ps : PS) (j j0 : AS) (LV : AL) (K B0 C0 : KT) (B1 B : Nat) (F : List TR → PA α), M ≤ N → PRX tk ps ((o, base ++ don.map tv), g) j (n + 1) → je false j0 j → Inv LV → LV fl = .int 1 → j.nn + 100 * (Tn tk - ps.1) ≤ B1 →
    (∀ ts ps' j' LV', PG tk ps ps' → 1 ≤ ts.length → je false j0 j' → j'.nn + 100 * (Tn tk - ps'.1) + 60 * ts.length ≤ B1 → fS ((o, base ++ (don ++ ts).map tv), g) + j'.nn + 8 * (n + 1) + 100 * (Tn tk - ps'.1) ≤ 29000 → Inv LV' → CTx false em tk fo j0 B (K LV' (stX tk ps' ((o, base ++ (don ++ ts).map tv), g) j')) (F ts ps')) →
    CTx false em tk fo j0 B (rn (zWh (N + 1) (bZ .ne (aL fl)) body zSkip LV (stX tk ps ((o, base ++ don.map tv), g) j)) K B0 C0) (pb (pMore tk s p M) F ps) := by
  induction N with
  | zero =>
    intro M don ps j j0 LV K B0 C0 B1 B F hM
    have : M = 0 := by omega
    subst this
    intros
    exact trivial
  | succ N ih =>
    intro M don ps j j0 LV K B0 C0 B1 B F hM hP hj hI h1 hB hK
    cases M with
    | zero => exact trivial
    | succ M =>
      obtain ⟨ht, hps, ha, ho, hfr, hfl, hS⟩ := id hP
      rw [rn_wh]
      have d1 : decide ((1 : Int32) = 0) = false := by decide
      simp only [d10, eq_self, decide_true, decide_false, ti_b, b2i_t, b2i_f, aK, aL, aF, aSz, aBin, aDiv, aB, aAt, aNd, aArgs, aCall, aIf, bCmp, bZ, bAnd, bOr, bNot, bTT, bIf, ab_ok, ab_no, ab_none, ab_ab, ab_ite, aok_ok, aok_none, og_ok, og_none, vbin_i, vb8_i, vput_i, vI_i, cmp_i, hold_eq, hold_ne, hold_lt, hold_ge, hold_gt, hold_le, b2i_0, ss_b, ss_ite, oAdd, oSub, oMul, Option.bind_some, A0of, va_up, List.length_nil, List.length_cons, List.getD_cons_zero, List.getD_cons_succ, List.getD_nil, if_true, if_false, Bool.not_not, Bool.not_true, Bool.not_false, Bool.false_eq_true, reduceIte, Nat.reduceSub, Nat.reduceAdd, Nat.reduceEqDiff, h1, rn_skip]
      rw [show pMore tk s p (M + 1) = pb p fun t ps' => if sg tk ps'.1 s = true then pb (pMore tk s p M) (fun l => pret (t :: l)) (ps'.1 + 1, ps'.2) else some (.inl ([t], ps')) from rfl, pb_pb]
      refine hb α em fo _ don ps j j0 LV _ _ _ B hP hj hI fun t ps' j' LV' q1 q2 q3 q4 q5 => ?_
      have hl : fS ((o, base ++ (don ++ [t]).map tv), g) = fS ((o, base ++ don.map tv), g) + 1 := by simp [fS]; omega
      cases hc : sg tk ps'.1 s with
      | true =>
        have hlt : ps'.1 < Tn tk := sg_lt hc
        rw [pb_at (p' := pb (pMore tk s p M) fun l => pret (t :: l)) (ps' := (ps'.1 + 1, ps'.2)) (by simp only [hc, A0of, va_up, List.length_nil, List.length_cons, List.getD_cons_zero, List.getD_cons_succ, List.getD_nil, if_true, if_false, Bool.not_not, Bool.not_true, Bool.not_false, Bool.false_eq_true, reduceIte, Nat.reduceSub, Nat.reduceAdd, Nat.reduceEqDiff]), pb_pb]
        simp only [A0of, va_up, List.length_nil, List.length_cons, List.getD_cons_zero, List.getD_cons_succ, List.getD_nil, if_true, if_false, Bool.not_not, Bool.not_true, Bool.not_false, Bool.false_eq_true, reduceIte, Nat.reduceSub, Nat.reduceAdd, Nat.reduceEqDiff]
        have hPn : PRX tk (ps'.1 + 1, ps'.2) ((o, base ++ (don ++ [t]).map tv), g) j' (n + 1) := hP.nx (PG.trans q1.e (PG.one q1.2.2.2.2 hlt)) (hj.l q2) (by rw [hl]; dsimp only; omega)
        refine ih M (don ++ [t]) (ps'.1 + 1, ps'.2) j' j0 LV' K _ _ (B1 - 60) B _ (by omega) hPn q2 q4 (by rw [q5, hc]; rfl) (by dsimp only; omega) fun ts ps'' j'' LV'' r1 r2 r3 r4 r5 r6 => ?_
        have := hK (t :: ts) ps'' j'' LV'' (PG.trans (PGe.trans q1.e (PG.one q1.2.2.2.2 hlt).e) r1) (by simp) r3 (by simp; omega) (by simpa using r5) r6
        simpa [pret_pb] using this
      | false =>
        rw [pb_val (v := [t]) (ps' := ps') (by simp only [hc, A0of, va_up, List.length_nil, List.length_cons, List.getD_cons_zero, List.getD_cons_succ, List.getD_nil, if_true, if_false, Bool.not_not, Bool.not_true, Bool.not_false, Bool.false_eq_true, reduceIte, Nat.reduceSub, Nat.reduceAdd, Nat.reduceEqDiff]), rn_wh]
        simp only [d10, eq_self, decide_true, decide_false, ti_b, b2i_t, b2i_f, aK, aL, aF, aSz, aBin, aDiv, aB, aAt, aNd, aArgs, aCall, aIf, bCmp, bZ, bAnd, bOr, bNot, bTT, bIf, ab_ok, ab_no, ab_none, ab_ab, ab_ite, aok_ok, aok_none, og_ok, og_none, vbin_i, vb8_i, vput_i, vI_i, cmp_i, hold_eq, hold_ne, hold_lt, hold_ge, hold_gt, hold_le, b2i_0, ss_b, ss_ite, oAdd, oSub, oMul, Option.bind_some, A0of, va_up, List.length_nil, List.length_cons, List.getD_cons_zero, List.getD_cons_succ, List.getD_nil, if_true, if_false, Bool.not_not, Bool.not_true, Bool.not_false, Bool.false_eq_true, reduceIte, Nat.reduceSub, Nat.reduceAdd, Nat.reduceEqDiff, q5, hc]
        have := hK [t] ps' j' LV' q1 (by simp) q2 (by simp; omega) (by rw [hl]; omega) q4
        exact this
theorem x_need' (hm : 4 ≤ m) (hP : PRX tk ps f j k) (s : Int32) : aX m 24 [.int s] (stX tk ps f j) = if sg tk ps.1 s = true then some (some (.int 0), stX tk (ps.1 + 1, ps.2) f j) else some (none, ftX (stX tk ps f j) 1) := x_need hm hP.1 hP.2.2.1 hP.2.2.2.2.2.1 s
/-- a sign that has to stand there -/
theorem ctx_need {s : Int32} {F : PA β} {g : V → AS → Option (Option V × AS)} {j0 : AS} {fo : FX} (hm : 4 ≤ m) (hP : PRX tk ps f j k) (hj : je false j0 j) (h : ps.1 < Tn tk → CTx false em2 tk fo j0 B (g (.int 0) (stX tk (ps.1 + 1, ps.2) f j)) (F (ps.1 + 1, ps.2))) : CTx false em2 tk fo j0 B (ab (aX m 24 [.int s] (stX tk ps f j)) g) (pNeed tk s F ps) := by
  rw [x_need' hm hP]
  unfold pNeed
  cases hc : sg tk ps.1 s with
  | true =>
    simp only [A0of, va_up, List.length_nil, List.length_cons, List.getD_cons_zero, List.getD_cons_succ, List.getD_nil, if_true, if_false, Bool.not_not, Bool.not_true, Bool.not_false, Bool.false_eq_true, reduceIte, Nat.reduceSub, Nat.reduceAdd, Nat.reduceEqDiff, ab_ok]
    exact h (sg_lt hc)
  | false =>
    simp only [A0of, va_up, List.length_nil, List.length_cons, List.getD_cons_zero, List.getD_cons_succ, List.getD_nil, if_true, if_false, Bool.not_not, Bool.not_true, Bool.not_false, Bool.false_eq_true, reduceIte, Nat.reduceSub, Nat.reduceAdd, Nat.reduceEqDiff, ab_no]
    exact ctx_flt hj hP.2.2.2.2.2.1
theorem pNeed_pb {s : Int32} {p : PA α} {F : α → PA β} : pb (pNeed tk s p) F = pNeed tk s (pb p F) := by
  funext ps
  unfold pb pNeed
  cases sg tk ps.1 s <;> rfl
theorem pEnter_pb {p : PA α} {F : α → PA β} : pb (pEnter p) F = pEnter (pb p F) := by
  funext ps
  unfold pb pEnter
  by_cases h : ps.2.1 < 32 <;> simp only [h, if_true, if_false] <;> rfl
theorem pAdv_pb {p : PA α} {F : α → PA β} : pb (pAdv tk p) F = pAdv tk (pb p F) := by
  funext ps
  unfold pb pAdv
  by_cases h : ps.1 < Tn tk <;> simp only [h, if_true, if_false]
theorem pLeave_pb {p : PA α} {F : α → PA β} : pb (pLeave p) F = pLeave (pb p F) := rfl
def PGg (tk : TK) (p : PA α) : Prop := ∀ ps v ps', psOK ps.2.2.2 → p ps = some (.inl (v, ps')) → PG tk ps ps'
def PGh (tk : TK) (p : PA α) : Prop := ∀ ps v ps', psOK ps.2.2.2 → p ps = some (.inl (v, ps')) → PGe tk ps ps'
theorem pgg_grE {p : PA α} : PGg tk (grE tk p) := fun _ _ _ _ h => grE_ok h
theorem pgh_grD {p : PA α} : PGh tk (grD tk p) := fun _ _ _ _ h => grD_ok h
theorem PRX.dn (h : PRX tk ps f j (n + 1)) : PRX tk ps f j n := h.at (Nat.le_refl _) h.2.2.1 (je.rf (W := false) j) (by have := h.2.2.2.2.2.2; omega)
theorem ctx_st {c s t : Nat} {vs : List V} {p : PA α} {F : α → PA β} {fo : FX} {j0 : AS} {g : V → AS → Option (Option V × AS)} (hc : CoG em tk c s t vs p) (hg : PGg tk p) (hs : s ≤ 100) (hn : c ≤ n) (hP : PRX tk ps f j (n + 1)) (hj : je false j0 j)
    (h : ∀ v ps' j', PG tk ps ps' → PRX tk ps' f j' (n + 1) → je false j0 j' → j'.nn + 100 * (Tn tk - ps'.1) + s ≤ j.nn + 100 * (Tn tk - ps.1) → CTx false em2 tk fo j0 B (g (em v) (stX tk ps' f j')) (F v ps')) : CTx false em2 tk fo j0 B (ab (aX n t vs (stX tk ps f j)) g) (pb p F ps) := by
  have hS := hP.2.2.2.2.2.2
  refine ctx_bind (B1 := j.nn + 100 * (Tn tk - ps.1) - s) hj (hc n ps f j _ hn hP.dn (by omega)) fun v ps' j' hp hj' hB => ?_
  have hpg := hg ps v ps' hP.2.1 hp
  obtain ⟨h1, h2, h3, h4, h5⟩ := id hpg
  exact h v ps' j' hpg (hP.nx hpg (hj.l hj') (by omega)) hj' (by omega)
theorem ctx_ste {c t : Nat} {vs : List V} {p : PA α} {F : α → PA β} {fo : FX} {j0 : AS} {g : V → AS → Option (Option V × AS)} (hc : CoG em tk c 0 t vs p) (hg : PGh tk p) (hn : c ≤ n) (hP : PRX tk ps f j (n + 1)) (hj : je false j0 j)
    (h : ∀ v ps' j', PGe tk ps ps' → PRX tk ps' f j' (n + 1) → je false j0 j' → j'.nn + 100 * (Tn tk - ps'.1) ≤ j.nn + 100 * (Tn tk - ps.1) → CTx false em2 tk fo j0 B (g (em v) (stX tk ps' f j')) (F v ps')) : CTx false em2 tk fo j0 B (ab (aX n t vs (stX tk ps f j)) g) (pb p F ps) := by
  have hS := hP.2.2.2.2.2.2
  refine ctx_bind (B1 := j.nn + 100 * (Tn tk - ps.1)) hj (hc n ps f j _ hn hP.dn (by omega)) fun v ps' j' hp hj' hB => ?_
  have hpg := hg ps v ps' hP.2.1 hp
  exact h v ps' j' hpg (hP.nxe hpg (hj.l hj') (by omega)) hj' hB
/-- declarations: they may take nothing and still make a tree -/
theorem ctx_std {c t : Nat} {vs : List V} {p : PA α} {F : α → PA β} {fo : FX} {j0 : AS} {g : V → AS → Option (Option V × AS)} (hc : CoD em tk c t vs p) (hg : PGh tk p) (hn : c ≤ n) (hP : PRX tk ps f j (n + 1)) (hR : fS f + j.nn + 8 * (n + 1) + 100 * (Tn tk - ps.1) + 1 ≤ 29000) (hj : je false j0 j)
    (h : ∀ v ps' j', PGe tk ps ps' → PRX tk ps' f j' (n + 1) → je false j0 j' → j'.nn + 100 * (Tn tk - ps'.1) ≤ j.nn + 100 * (Tn tk - ps.1) + 1 → CTx false em2 tk fo j0 B (g (em v) (stX tk ps' f j')) (F v ps')) : CTx false em2 tk fo j0 B (ab (aX n t vs (stX tk ps f j)) g) (pb p F ps) := by
  refine ctx_bind (B1 := j.nn + 100 * (Tn tk - ps.1) + 1) hj (hc n ps f j _ hn hP.dn (Nat.le_refl _)) fun v ps' j' hp hj' hB => ?_
  have hpg := hg ps v ps' hP.2.1 hp
  exact h v ps' j' hpg (hP.nxe hpg (hj.l hj') (by omega)) hj' hB
theorem ctx_tl {c s t : Nat} {vs : List V} {p : PA α} {j0 : AS} (hc : CoG em tk c s t vs p) (hn : c ≤ n) (hP : PRX tk ps f j (n + 1)) (hj : je false j0 j) (hB : j.nn + 100 * (Tn tk - ps.1) ≤ B + s) : CTx false em tk f j0 B (aX n t vs (stX tk ps f j)) (p ps) := ctx_je hj (hc n ps f j B hn hP.dn hB)
theorem PRX.one (h : PRX tk ps f j k) (hlt : ps.1 < Tn tk) : PRX tk (ps.1 + 1, ps.2) f j k := h.at (Nat.le_succ _) hlt (je.rf (W := false) j) (by have := h.2.2.2.2.2.2; omega)
theorem x_match_body {pat E : PA TR} {c o : Nat} {base : List V} {g : (Nat × List V) × (Nat × List V)} {w : V} (hpg : PGr tk pat) (hpt : CoX false tk c 30 26 [] pat) (hEg : PGr tk E) (hE : CoX false tk c 30 53 [.int 0] E) (hn : max c 5 ≤ n) :
    BodyM tk n o base g 44 (pRul tk pat E) (fun LV => LV 1 = w) 2 (zSeq (zSet 3 (aF 3)) (zSeq (zSet 4 (aCall (aX n) 26 [])) (zSeq (zEx (aCall (aX n) 24 [(aK 46)])) (zSeq (zAdd 13 (aCall (aX n) 56 [(aL 4), (aCall (aX n) 53 [(aK 0)]), (aL 3)])) (zSet 2 (aCall (aX n) 10 [(aK 44)])))))) := by
  intro α em fo F don ps j j0 LV K B0 C0 B hP hj hI hK
  obtain ⟨ht, hps, ha, ho, hfr, hfl, hS⟩ := id hP
  have hA : ALM = 30000 := rfl
  simp only [amth_eq, rn_seq, rn_if, rn_set, rn_inc, rn_ex, rn_ret, rn_ret0, rn_skip, rn_putF, rn_opF, rn_opU, rn_putS, rn_opS, rn_at, rn_atB, rn_add, rn_swap, rn_sw, rn_brk, rn_cnt, fin_ok, fin_ab, fin_ite, fin_og, fin_b, fin_0, fin_1, fin_v, fin_no, fin_none, d10, eq_self, decide_true, decide_false, ti_b, b2i_t, b2i_f, aK, aL, aF, aSz, aBin, aDiv, aB, aAt, aNd, aArgs, aCall, aIf, bCmp, bZ, bAnd, bOr, bNot, bTT, bIf, ab_ok, ab_no, ab_none, ab_ab, ab_ite, aok_ok, aok_none, og_ok, og_none, vbin_i, vb8_i, vput_i, vI_i, cmp_i, hold_eq, hold_ne, hold_lt, hold_ge, hold_gt, hold_le, b2i_0, ss_b, ss_ite, oAdd, oSub, oMul, Option.bind_some, A0of, va_up, List.length_nil, List.length_cons, List.getD_cons_zero, List.getD_cons_succ, List.getD_nil, if_true, if_false, Bool.not_not, Bool.not_true, Bool.not_false, Bool.false_eq_true, reduceIte, Nat.reduceSub, Nat.reduceAdd, Nat.reduceEqDiff, sX_f3, sX_f17, sX_f18, sX_f21, sX_R0, sX_R1, sX_R2, sX_R10, sX_R11, sX_R12, sX_R13, sX_R14, sX_R15, sX_o0, sX_o1, sX_o2, sX_o10, sX_o11, sX_o12, sX_o13, sX_o14, sX_o15, sX_nn, sX_fl]
  rw [pb_at (p := pRul tk pat E) (p' := pb pat fun p => pNeed tk 46 (pb E fun e => pret (tRule p e (nI ps.1)))) (ps' := ps) rfl, pb_pb]
  refine ctx_st hpt hpg (by omega) (by omega) hP hj fun p ps1 j1 g1 hP1 hj1 hB1 => ?_
  rw [pNeed_pb]
  refine ctx_need (by omega) hP1 hj1 fun hl1 => ?_
  rw [pb_pb]
  refine ctx_st hE hEg (by omega) (by omega) (hP1.one hl1) hj1 fun e ps2 j2 g2 hP2 hj2 hB2 => ?_
  obtain ⟨_, hps2, ha2, _, _, hfl2, hS2⟩ := id hP2
  have hb2 : ps2.1 ≤ tk.1.length := ha2
  have hlen : o + (base ++ don.map tv).length < ALM := by simp only [fS] at hS; omega
  simp (disch := first | assumption | omega | (simp only [pr0_1, pr1_1, pr2_1, pr0_10, pr1_10, pr2_10, pr0_11, pr1_11, pr2_11, pr0_12, pr1_12, pr2_12, pr0_13, pr1_13, pr2_13, pr0_14, pr1_14, pr2_14, pr0_15, pr1_15, pr2_15, pr0_16, pr1_16, pr2_16, pr0_17, pr1_17, pr2_17, pr0_18, pr1_18, pr2_18, pr0_19, pr1_19, pr2_19, pr0_20, pr1_20, pr2_20, pr0_30, pr1_30, pr2_30, pr0_31, pr1_31, pr2_31, pr0_32, pr1_32, pr2_32, pr0_33, pr1_33, pr2_33, pr0_34, pr1_34, pr2_34, pr0_35, pr1_35, pr2_35, pr0_36, pr1_36, pr2_36, pr0_37, pr1_37, pr2_37, pr0_50, pr1_50, pr2_50, pr0_51, pr1_51, pr2_51, pr0_52, pr1_52, pr2_52, pr0_53, pr1_53, pr2_53, pr0_54, pr1_54, pr2_54, pr0_70, pr1_70, pr2_70, pr0_71, pr1_71, pr2_71, pr0_72, pr1_72, pr2_72, pr0_73, pr1_73, pr2_73, pr0_74, pr1_74, pr2_74, pr0_75, pr1_75, pr2_75, pr0_76, pr1_76, pr2_76, pr0_77, pr1_77, pr2_77, pr0_78, pr1_78, pr2_78, pr0_79, pr1_79, pr2_79, pr0_80, pr1_80, pr2_80, pr0_81, pr1_81, pr2_81, pr0_82, pr1_82, pr2_82, pr0_83, pr1_83, pr2_83, pr0_84, pr1_84, pr2_84, okF_tv, okF_no, okF_n1, okF_i, okLi, okOv, ok33] <;> assumption) | decide | (simp only [mkN_nn, mkN_fl, sX_fl, sX_nn, List.length_append, List.length_cons, List.length_nil, List.length_map]; omega) | (dsimp only; omega)) only [amth_eq, rn_seq, rn_if, rn_set, rn_inc, rn_ex, rn_ret, rn_ret0, rn_skip, rn_putF, rn_opF, rn_opU, rn_putS, rn_opS, rn_at, rn_atB, rn_add, rn_swap, rn_sw, rn_brk, rn_cnt, fin_ok, fin_ab, fin_ite, fin_og, fin_b, fin_0, fin_1, fin_v, fin_no, fin_none, d10, eq_self, decide_true, decide_false, ti_b, b2i_t, b2i_f, aK, aL, aF, aSz, aBin, aDiv, aB, aAt, aNd, aArgs, aCall, aIf, bCmp, bZ, bAnd, bOr, bNot, bTT, bIf, ab_ok, ab_no, ab_none, ab_ab, ab_ite, aok_ok, aok_none, og_ok, og_none, vbin_i, vb8_i, vput_i, vI_i, cmp_i, hold_eq, hold_ne, hold_lt, hold_ge, hold_gt, hold_le, b2i_0, ss_b, ss_ite, oAdd, oSub, oMul, Option.bind_some, A0of, va_up, List.length_nil, List.length_cons, List.getD_cons_zero, List.getD_cons_succ, List.getD_nil, if_true, if_false, Bool.not_not, Bool.not_true, Bool.not_false, Bool.false_eq_true, reduceIte, Nat.reduceSub, Nat.reduceAdd, Nat.reduceEqDiff, x_rule, xa13, x_takes, pret_pb]
  dsimp only at hB2
  rw [show base ++ don.map tv ++ [tv (tRule p e (nI ps.1))] = base ++ (don ++ [tRule p e (nI ps.1)]).map tv by simp]
  exact hK (tRule p e (nI ps.1)) ps2 (mkN j2 1) _ (PG.trans (PGe.trans g1.e (PG.one g1.2.2.2.2 hl1).e) g2) (hj2.mk _) (by first | omega | (simp only [mkN_nn]; omega)) (by simpa [va_up] using hI) rfl
theorem x_match {pat E : PA TR} {c : Nat} (hpg : PGr tk pat) (hpt : CoX false tk c 30 26 [] pat) (hEg : PGr tk E) (hE : CoX false tk c 30 53 [.int 0] E) : CoG tLi tk (max c 5 + 1) 40 55 [] (pMch tk pat E) := by
  intro k ps f j B hk hP hB; have hP0 := hP; obtain ⟨ht, hps, ha, ho, hfr, hfl, hS⟩ := hP0; obtain ⟨n, rfl⟩ := suc1 (m := k) (by omega); have hf2 : 0 < (stX tk ps f j).fl := hfl; have ha2 : ps.1 ≤ tk.1.length := ha; have hA : ALM = 30000 := rfl
  obtain ⟨⟨o, base⟩, g⟩ := f
  refine ctx_grE ?_
  simp only [eX_match, zX_match, amth_run, run_nil, run_seq, run_skip, run_ret0, run_ret, run_set, run_inc, run_ex, run_if, run_putF, run_opF, run_opU, run_putS, run_opS, run_add, run_at, run_atB, run_sw, kS_ok, kS_no, kE_ok, kE_no, kI_t, kI_f, kI_no, kPF_ok, kOF_ok, kPS_ok, kOS_ok, kAD_ok, kAD_no, kT1_ok, kT2_ok, kB1_ok, kB2_ok, kSw_ok, fin_ok, fin_b, fin_0, fin_1, fin_v, fin_no, fin_none, d10, eq_self, decide_true, decide_false, ti_b, b2i_t, b2i_f, aK, aL, aF, aSz, aBin, aDiv, aB, aAt, aNd, aArgs, aCall, aIf, bCmp, bZ, bAnd, bOr, bNot, bTT, bIf, ab_ok, ab_no, ab_none, ab_ab, ab_ite, aok_ok, aok_none, og_ok, og_none, vbin_i, vb8_i, vput_i, vI_i, cmp_i, hold_eq, hold_ne, hold_lt, hold_ge, hold_gt, hold_le, b2i_0, ss_b, ss_ite, oAdd, oSub, oMul, Option.bind_some, A0of, va_up, List.length_nil, List.length_cons, List.getD_cons_zero, List.getD_cons_succ, List.getD_nil, if_true, if_false, Bool.not_not, Bool.not_true, Bool.not_false, Bool.false_eq_true, reduceIte, Nat.reduceSub, Nat.reduceAdd, Nat.reduceEqDiff, sX_f3, sX_f17, sX_f18, sX_f21, sX_R0, sX_R1, sX_R2, sX_R10, sX_R11, sX_R12, sX_R13, sX_R14, sX_R15, sX_o0, sX_o1, sX_o2, sX_o10, sX_o11, sX_o12, sX_o13, sX_o14, sX_o15, sX_nn, sX_fl]
  rw [run_rn, ← pb_ret (pMore tk 44 (pRul tk pat E) LF)]
  have hP' : PRX tk ps ((o, base ++ ([] : List TR).map tv), g) j (n + 1) := by simpa using hP
  have := x_more (em := tLi) (fo := ((o, base), g)) (x_match_body (n := n) (o := o) (base := base) (g := g) (w := .int (nI (o + base.length))) hpg hpt hEg hE (by omega)) 99999 LF [] ps j j (va_up (va_up (A0of true []) 1 (.int (nI (o + base.length)))) 2 (.int 1)) (run [zRet (aCall (aX n) 25 [(aL 1)])] nk) nk nk (j.nn + 100 * (Tn tk - ps.1)) B (fun l => pret l) (by decide) hP' (je.rf (W := false) j) rfl rfl (Nat.le_refl _) fun ts ps' j' LV' r1 r2 r3 r4 r5 r6 => ?_
  · simpa using this
  · rw [List.nil_append, fS_push, List.length_map] at r5
    have el := x_list (tk := tk) (ps := ps') (j := j') (m := n) (by omega) (o := o) (base := base) (items := ts) (g := g) (by omega) (by simp [fS] at r5 ⊢; omega) (by omega)
    simp only [amth_run, run_nil, run_seq, run_skip, run_ret0, run_ret, run_set, run_inc, run_ex, run_if, run_putF, run_opF, run_opU, run_putS, run_opS, run_add, run_at, run_atB, run_sw, kS_ok, kS_no, kE_ok, kE_no, kI_t, kI_f, kI_no, kPF_ok, kOF_ok, kPS_ok, kOS_ok, kAD_ok, kAD_no, kT1_ok, kT2_ok, kB1_ok, kB2_ok, kSw_ok, fin_ok, fin_b, fin_0, fin_1, fin_v, fin_no, fin_none, d10, eq_self, decide_true, decide_false, ti_b, b2i_t, b2i_f, aK, aL, aF, aSz, aBin, aDiv, aB, aAt, aNd, aArgs, aCall, aIf, bCmp, bZ, bAnd, bOr, bNot, bTT, bIf, ab_ok, ab_no, ab_none, ab_ab, ab_ite, aok_ok, aok_none, og_ok, og_none, vbin_i, vb8_i, vput_i, vI_i, cmp_i, hold_eq, hold_ne, hold_lt, hold_ge, hold_gt, hold_le, b2i_0, ss_b, ss_ite, oAdd, oSub, oMul, Option.bind_some, A0of, va_up, List.length_nil, List.length_cons, List.getD_cons_zero, List.getD_cons_succ, List.getD_nil, if_true, if_false, Bool.not_not, Bool.not_true, Bool.not_false, Bool.false_eq_true, reduceIte, Nat.reduceSub, Nat.reduceAdd, Nat.reduceEqDiff, r6, List.nil_append, el]
    exact ctx_ret (r3.mk _) (by first | omega | (simp only [mkN_nn]; omega))
end XMO
