/-! M: expressions -/
noncomputable abbrev pE4 (tk : TK) (ty pat E inf : PA TR) : PA TR := pEl tk 4 ty pat E inf (fun _ => none) (fun _ => none)
noncomputable abbrev pE3 (tk : TK) (ty pat E inf : PA TR) : PA TR := pEl tk 3 ty pat E inf (fun _ => none) (pE4 tk ty pat E inf)
noncomputable abbrev pT0 (tk : TK) (ty pat E inf : PA TR) (b M : Nat) (e : TR) : PA TR := pEt tk 0 ty pat E (pE3 tk ty pat E inf) (pE4 tk ty pat E inf) b M e
noncomputable abbrev pT3 (tk : TK) (ty pat E inf : PA TR) (b M : Nat) (e : TR) : PA TR := pEt tk 3 ty pat E (fun _ => none) (pE4 tk ty pat E inf) b M e
noncomputable def LoD (tk : TK) (ty pat E inf : PA TR) (o3 : Option TR) (b b2 M M3 : Nat) (e : TR) : PA TR := match o3 with
  | none => pT0 tk ty pat E inf b M e
  | some r => pb (pT3 tk ty pat E inf b2 M3 e) fun z => pT0 tk ty pat E inf b M (tChoose r (tName 0 (nI b)) z (nI b))
noncomputable def HHp (tk : TK) (ty pat E inf : PA TR) (o3 o4 : Option TR) (b b2 M M3 : Nat) : PA TR := match o3, o4 with
  | none, none => fun _ => none
  | some r, none => pb (pE3 tk ty pat E inf) fun y => pT0 tk ty pat E inf b M (tChoose r (tName 0 (nI b)) y (nI b))
  | o3, some e => pb (pE4 tk ty pat E inf) fun y => LoD tk ty pat E inf o3 b b2 M M3 (tChoose e y (tName 1 (nI b2)) (nI b2))
abbrev zEtB (rec : ARC) : BX := bAnd (bNot (bZ .ne (aL 6))) (bZ .ne (aCall rec 9 [(aK 40)]))
abbrev zEtS (rec : ARC) : ZX := zSet 8 (aCall rec 16 [(aK 16), (aL 8), (aCall rec 35 []), (aK (-1)), (aL 7)])
abbrev zE24 (rec : ARC) : ZX := zSet 4 (aIf (bZ .lt (aL 4)) (aL 8) (aCall rec 67 [(aL 4), (aL 8), (aCall rec 49 [(aK 1), (aL 2)]), (aL 2)]))
abbrev zE2i (rec : ARC) : ZX := zIf (bOr (bZ .ne (aL 6)) (bNot (bZ .ne (aCall rec 9 [(aK 3)])))) (zSeq (zSet 3 (aIf (bZ .lt (aL 3)) (aL 4) (aCall rec 67 [(aL 3), (aCall rec 49 [(aK 0), (aL 1)]), (aL 4), (aL 1)]))) (zSeq (zSet 4 (aK (-1))) (zSeq (zSet 5 (aIf (bAnd (bNot (bZ .ne (aL 6))) (bZ .ne (aCall rec 9 [(aK 24)]))) (aK 1) (aK 0))) (zSet 2 (aF 13))))) zSkip
abbrev zEB (rec : ARC) : ZX := (zSeq (zSet 6 (aIf (bAnd (bOr (bZ .ge (aL 3)) (bZ .ge (aL 4))) (bZ .ne (aCall rec 13 []))) (aK 1) (aK 0))) (zSeq (zSet 7 (aF 13)) (zSeq (zSet 8 (aIf (bZ .ne (aL 6)) (aCall rec 14 []) (aCall rec 22 [(aK 0)]))) (zSeq (zWh LN (zEtB rec) (zEtS rec) zSkip) (zSeq (zE24 rec) (zE2i rec))))))
abbrev zEH (rec : ARC) : ZX := (zSeq (zWh LN (bZ .ne (aCall rec 6 [(aK 13)])) (zSeq (zEx (aCall rec 15 [])) (zSeq (zOpF oAdd 13 (aK 1)) (zSeq (zSet 3 (aCall rec 16 [(aK 17), (aL 3), (aCall rec 17 []), (aK (-1)), (aL 1)])) (zOpF oSub 14 (aK 1))))) zSkip) (zRet (aL 3)))
section MEX
variable {α β : Type} {em : α → V} {em2 : β → V} {tk : TK} {f f1 f' fo : FM} {j j1 j' j0 : AS} {B B1 a : Nat} {r : Option (Option V × AS)} {ps ps' : PS} {m n k k' : Nat} {LV : AL} {zs : List ZX} {ty pat E inf : PA TR} {c b : Nat}
theorem bZlt_ov {k : Nat} {o : Option TR} (h : LV k = ov o) (A : AS) : bZ .lt (aL k) LV A = some (some o.isNone, A) := by
  simp only [bZ, aL, ab_ok, h]
  cases o <;> rfl
theorem bZge_ov {k : Nat} {o : Option TR} (h : LV k = ov o) (A : AS) : bZ .ge (aL k) LV A = some (some o.isSome, A) := by
  simp only [bZ, aL, ab_ok, h]
  cases o <;> rfl
theorem pet_q4 {lv : Int32} {e3 e4 : PA TR} {M : Nat} {e : TR} (h : Q4 tk ps.1) : pEt tk lv ty pat E e3 e4 b (M + 1) e ps = some (.inl (e, ps)) := by
  obtain ⟨h1, h2, h3, h4⟩ := h
  simp only [pEt, h1, h2, h3, h4, Bool.and_false, Bool.false_eq_true, if_false]
theorem m_tys {lv : Int32} {e3 e4 : PA TR} (htg : PGr tk ty) (hty : CoM false tv tk c 30 35 [] ty) (hn : max c 6 ≤ n) (N : Nat) : ∀ (M : Nat) (e : TR) (ps : PS) (j : AS) (LV : AL) (K B0 C0 : KT) (F : TR → PA α), M ≤ N → PRM tk ps f j (n + 1) → jfm false j0 j → LV 6 = .int 0 → LV 7 = .int (nI b) → LV 8 = tv e →
    (∀ M' e' ps' j' LV', sg tk ps'.1 40 = false → ps.1 ≤ ps'.1 → PRM tk ps' f j' (n + 1) → jfm false j0 j' → j'.nn + 100 * (Tn tk - ps'.1) ≤ j.nn + 100 * (Tn tk - ps.1) → LV' 8 = tv e' → (∀ k, k ≠ 8 → LV' k = LV k) → CTm false em tk fo j0 B (K LV' (stM ps' f j')) (pb (pEt tk lv ty pat E e3 e4 b M' e') F ps')) →
    CTm false em tk fo j0 B (rn (zWh (N + 1) (zEtB (aM n)) (zEtS (aM n)) zSkip LV (stM ps f j)) K B0 C0) (pb (pEt tk lv ty pat E e3 e4 b M e) F ps) := by
  induction N with
  | zero =>
    intro M t ps j LV K B0 C0 F hM
    have : M = 0 := by omega
    subst this
    intros
    exact trivial
  | succ N ih =>
    intro M e ps j LV K B0 C0 F hM hP hj l6 l7 l8 hK
    cases M with
    | zero => exact trivial
    | succ M =>
      obtain ⟨ht, hT, hps, ha, hop0, hfr, hS⟩ := id hP
      have hA : ALM = 30000 := rfl
      have ec : zEtB (aM n) LV (stM ps f j) = some (some (sg tk ps.1 40), stM (if sg tk ps.1 40 = true then (ps.1 + 1, ps.2) else ps) f j) := by
        unfold zEtB bAnd
        rw [bNot_e (x := false) (bZn_e (x := false) (by rw [aL_e, l6]; rfl)), ab_ok, if_pos (by decide), m_eatB (by omega) hP]
      rw [rn_wh, ec, ab_ok]
      cases h40 : sg tk ps.1 40 with
      | false =>
        rw [if_neg (by decide), if_neg (by decide)]
        exact hK (M + 1) e ps j LV h40 (Nat.le_refl _) hP hj (Nat.le_refl _) l8 (fun _ _ => rfl)
      | true =>
        have hlt : ps.1 < Tn tk := sg_lt h40
        rw [if_pos rfl, if_pos rfl, pb_at (p' := pb ty (fun t => pEt tk lv ty pat E e3 e4 b M (16, tv e, tv t, no, nI b))) (ps' := (ps.1 + 1, ps.2)) (by simp only [pEt, h40, if_true]), pb_pb, rn_set]
        simp only [aCall, aArgs, aK, aL, ab_ok, ab_ab, A0of, va_up, List.length_nil, List.length_cons, List.getD_cons_zero, List.getD_cons_succ, List.getD_nil, if_true, if_false, Bool.not_not, Bool.not_true, Bool.not_false, Bool.false_eq_true, reduceIte, Nat.reduceSub, Nat.reduceAdd, Nat.reduceEqDiff]
        refine ctm_st hty htg (by omega) (by omega) (hP.one hlt) hj fun x ps1 j1 g1 hP1 hj1 hB1 => ?_
        dsimp only at hB1
        have hS1 := hP1.2.2.2.2.2.2
        have g11 := g1.1
        dsimp only at g11
        have emk := m_make (m := n) (ps := ps1) (f := f) (j := j1) (k := 16) (p := nI b) (a := tv e) (b := tv x) (c := .int (-1)) (by omega) (by omega) (by decide) rfl rfl rfl
        simp only [ab_ok, l7, l8, emk, rn_skip]
        refine ih M (16, tv e, tv x, no, nI b) ps1 (mkN j1 1) _ K B0 C0 F (by omega) (hP1.mkf (W := false) ((jfm.rf j1).mk _) (by rw [mkN_nn]; omega)) (hj1.mk _) (by simpa [va_up] using l6) (by simpa [va_up] using l7) rfl fun M' e' ps' j' LV' r1 r2 r3 r4 r5 r6 r7 => ?_
        rw [mkN_nn] at r5
        exact hK M' e' ps' j' LV' r1 (by omega) r3 r4 (by omega) r6 (fun k hk => (r7 k hk).trans (va_up_ne _ _ hk))
theorem m_hdl {e3 e4 : PA TR} {M : Nat} {e : TR} (hEq : EndQ tk (pMch tk pat E)) (hM : CoM false tLi tk c 40 17 [] (pMch tk pat E)) (hn : max c 6 ≤ n) (hP : PRM tk ps f j (n + 1)) (hj : jfm false j0 j) (hB : j.nn + 100 * (Tn tk - ps.1) ≤ B) (h40 : sg tk ps.1 40 = false) (h3 : sg tk ps.1 3 = false) (h24 : sg tk ps.1 24 = false) (l1 : LV 1 = .int (nI b)) (l3 : LV 3 = tv e) :
    CTm false tv tk f j0 B (run [zEH (aM n)] nk LV (stM ps f j)) (pEt tk 0 ty pat E e3 e4 b M e ps) := by
  cases M with
  | zero => exact trivial
  | succ M =>
    obtain ⟨ht, hT, hps, ha, hop0, hfr, hS⟩ := id hP
    have hA : ALM = 30000 := rfl
    have cS : ∀ (ps : PS) (j : AS) (L : AL), PRM tk ps f j (n + 1) → bZ .ne (aCall (aM n) 6 [(aK 13)]) L (stM ps f j) = some (some (sg tk ps.1 13), stM ps f j) := fun ps j L hP => aCall1_b (m_is (by omega) hP.1 hP.2.1 hP.2.2.2.1 13)
    rw [run_seq, run_rn, show LN = 99999 + 1 from rfl, rn_wh, cS ps j LV hP, ab_ok]
    cases h13 : sg tk ps.1 13 with
    | false =>
      rw [if_neg (by decide), pet_q4 ⟨h40, h3, h24, h13⟩, run_ret, aL_e, l3]
      exact ctm_ret hj hB
    | true =>
      rw [if_pos rfl, show pEt tk 0 ty pat E e3 e4 b (M + 1) e ps = pEnter (pAdv tk (pb (pMch tk pat E) fun l => pLeave (pEt tk 0 ty pat E e3 e4 b M (17, tv e, tLi l, no, nI b)))) ps from by simp only [pEt, h40, h3, h24, h13, Bool.and_false, Bool.false_eq_true, if_false, show decide ((0 : Int32) ≤ 1) = true from by decide, Bool.and_self, if_true], rn_seq, rn_ex, aCall_nil]
      refine ctm_enter (by omega) hP hj fun hop => ?_
      refine ctm_adv fun hlt => ?_
      have hP1 := hP.op hop hlt
      simp only [rn_seq, rn_opF, rn_set, aK_e, ab_ok, vbin_i, Option.bind_some, vput_i, og_ok, sM_f13, show ∀ i, oAdd (nI i) 1 = nI (i + 1) from fun i => nI_1 _, sM_p13]
      simp only [aCall, aArgs, aK, aL, ab_ok, ab_ab, A0of, va_up, List.length_nil, List.length_cons, List.getD_cons_zero, List.getD_cons_succ, List.getD_nil, if_true, if_false, Bool.not_not, Bool.not_true, Bool.not_false, Bool.false_eq_true, reduceIte, Nat.reduceSub, Nat.reduceAdd, Nat.reduceEqDiff]
      refine ctm_bind (B1 := j.nn + 100 * (Tn tk - (ps.1 + 1)) - 40) hj (hM n _ f j _ (by omega) hP1.dn (by dsimp only; omega)) fun l ps1 j1 hp hj1 hB1 => ?_
      have g1 : PG tk _ ps1 := grE_ok hp
      obtain ⟨q40, q3, q24, q13⟩ := hEq _ _ _ hp
      obtain ⟨c1, c2, c3, c4, c5⟩ := id g1
      dsimp only at c1 c3
      have hS1 : fSm f + j1.nn + 8 * (n + 1) + 100 * (Tn tk - ps1.1) + 1 ≤ 29000 := by omega
      have emk := m_make (m := n) (ps := ps1) (f := f) (j := j1) (k := 17) (p := nI b) (a := tv e) (b := tLi l) (c := .int (-1)) (by omega) (by omega) (by decide) rfl (okLi l) rfl
      have ho : oSub (nI ps1.2.1) 1 = nI ps.2.1 := by rw [c3]; exact nI_pred _
      simp only [ab_ok, l1, l3, emk, sM_f14, rn_skip, ho, sM_p14, vbin_i, Option.bind_some, vput_i, og_ok]
      have hlen : ps1.2.1 - 1 = ps.2.1 := by rw [c3]; rfl
      unfold pLeave
      rw [hlen]
      have hP2 : PRM tk (ps1.1, ps.2.1, ps1.2.2) f (mkN j1 1) (n + 1) := ⟨ht, hT.jfm ((hj.l hj1).mk _), c5, c2, hop0, (hP1.nx g1 (hj.l hj1) (k' := n + 1) (f' := f) (by omega)).2.2.2.2.2.1, by rw [mkN_nn]; dsimp only; omega⟩
      rw [rn_wh, cS _ _ _ hP2, ab_ok, show sg tk (ps1.1, ps.2.1, ps1.2.2).1 13 = false from q13, if_neg (by decide), run_ret, aL_e]
      cases M with
      | zero => exact trivial
      | succ M =>
        rw [pet_q4 (show Q4 tk (ps1.1, ps.2.1, ps1.2.2).1 from ⟨q40, q3, q24, q13⟩)]
        exact ctm_ret (v := (17, tv e, tLi l, no, nI b)) (hj1.mk _) (by rw [mkN_nn]; dsimp only; omega)
end MEX
