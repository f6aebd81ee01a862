/-! M: a declaration -/
abbrev zDcX (n : Nat) : AX := (aIf (bCmp .eq (aL 6) (aK 29)) (aCall (aM n) 69 [(aL 5)]) (aIf (bCmp .eq (aL 6) (aK 12)) (aCall (aM n) 71 [(aL 5)]) (aIf (bCmp .eq (aL 6) (aK 19)) (aCall (aM n) 78 [(aL 5)]) (aIf (bCmp .eq (aL 6) (aK 1)) (aCall (aM n) 81 [(aL 5)]) (aCall (aM n) 87 [(aL 6), (aL 5)])))))
/-- what a declaration does -/
def DecM (tk : TK) (n : Nat) (dec : PA (Option TR)) : Prop := ∀ (ps : PS) (f : FM) (j : AS) (B : Nat) (L : AL), begD tk ps.1 = true → PRM tk ps f j (n + 1) → j.nn + 100 * (Tn tk - ps.1) ≤ B + 20 → L 5 = .int (nI ps.1) → L 6 = .int (vAt tk ps.1) → CTm false ov tk f j B (zDcX n L (stM (ps.1 + 1, ps.2) f j)) (dec ps)
section MDE
variable {α β : Type} {W : Bool} {em : α → V} {em2 : β → V} {tk : TK} {f f1 f' fo : FM} {j j1 j' j0 : AS} {B B1 a : Nat} {r : Option (Option V × AS)} {ps ps' : PS} {m n k k' : Nat} {LV : AL} {zs : List ZX} {ty pat aq ap E D : PA TR} {c b o : Nat} {row : List V} {gg : Nat × List V}
theorem ctm_some {p : PA TR} (h : CTm W tv tk f j B r (p ps)) : CTm W ov tk f j B r (pb p (fun t => pret (some t)) ps) := by
  unfold pb
  cases hp : p ps with
  | none => exact trivial
  | some q =>
    rw [hp] at h
    match q, h with
    | .inr e, h => exact h
    | .inl (v, ps'), h => exact h
/-- a list is made into a tree -/
theorem ctm_li {p : PA (List TR)} {k b : Int32} (hn : 1 ≤ n) (hk : ¬ (k = 11 ∨ k = 32)) (h0 : (prt k).testBit 0 = true) (hR : B < ALM) (hB : B + 1 ≤ B1) (hc : CTm false tLi tk f j B r (p ps)) : CTm false ov tk f j B1 (ab r fun l A => aM n 16 [.int k, l, .int (-1), .int (-1), .int b] A) (pb p (fun l => pret (some (k, tLi l, no, no, b))) ps) := by
  refine ctm_bind (jfm.rf j) hc fun l ps' j' _ h1 h2 => ?_
  rw [m_make hn (by omega) hk (by rw [h0]; exact okLi l) (by cases (prt k).testBit 1 <;> rfl) (by cases (prt k).testBit 2 <;> rfl)]
  exact ctm_ret (em := ov) (v := some (k, tLi l, no, no, b)) (h1.mk _) (by rw [mkN_nn]; omega)
theorem begD_v {i : Nat} (h : begD tk i = true) : kAt tk i = 1 ∧ (vAt tk i = 29 ∨ vAt tk i = 12 ∨ vAt tk i = 28 ∨ vAt tk i = 6 ∨ vAt tk i = 1 ∨ vAt tk i = 10 ∨ vAt tk i = 19 ∨ vAt tk i = 23 ∨ vAt tk i = 16 ∨ vAt tk i = 17 ∨ vAt tk i = 20) := by
  simp only [begD, sg, Bool.or_eq_true, Bool.and_eq_true, decide_eq_true_eq] at h
  rcases h with ((((((((((h | h) | h) | h) | h) | h) | h) | h) | h) | h) | h) <;> exact ⟨h.1, by simp [h.2]⟩
theorem eq_L {x i : Int32} {k0 : Nat} (h : LV k0 = .int x) (A : AS) : bCmp .eq (aL k0) (aK i) LV A = some (some (decide (x = i)), A) := bEq_e (by rw [aL_e, h])
theorem aIf_eqT {x i : Int32} {k0 : Nat} {p q : AX} {A : AS} (h : LV k0 = .int x) (hx : x = i) : aIf (bCmp .eq (aL k0) (aK i)) p q LV A = p LV A := aIf_t ((eq_L h A).trans (by rw [decide_eq_true hx]))
theorem aIf_eqF {x i : Int32} {k0 : Nat} {p q : AX} {A : AS} (h : LV k0 = .int x) (hx : ¬ x = i) : aIf (bCmp .eq (aL k0) (aK i)) p q LV A = q LV A := aIf_f ((eq_L h A).trans (by rw [decide_eq_false hx]))
theorem m_dec (htg : PGr tk ty) (hty : CoM false tv tk c 30 35 [] ty) (hty' : CoM true tv tk c 30 35 [] ty) (hpg : PGr tk pat) (hpt : CoP false tk c 30 18 [] pat) (haq : CoM true tv tk c 60 25 [] aq) (hqa : PGt tk aq) (hff : ∀ ps e, aq ps = some (.inr e) → e.2.2 = ps.2.2.2) (hno : ∀ ps, begP tk ps = false → aq ps = pflt 1 ps)
    (htf : ∀ ps e, sg tk ps.1 33 = true → pTry tk aq ps = some (.inr e) → FN e (ap ps)) (hap : CoM true tv tk c 60 25 [] ap) (hq : PGt tk ap) (hEg : PGr tk E) (hE : CoM false tv tk c 30 12 [] E) (hDg : PGh tk D) (hD : CoMD tv tk c 5 [.int 0] D) (hn : max c 5 + 8 ≤ n) : DecM tk n (pDec tk ty pat aq ap E D) := by
  intro ps f j B L hb hP hB l5 l6
  obtain ⟨hk1, hv⟩ := begD_v hb
  have hlt : ps.1 < Tn tk := k_lt (by rw [hk1]; decide)
  have hP1 := hP.one hlt
  have hPn := hP1.dn
  have hS := hP.2.2.2.2.2.2
  have hA : ALM = 30000 := rfl
  unfold pDec zDcX
  refine ctm_gE ?_
  dsimp only
  by_cases he : vAt tk ps.1 = 1 ∨ vAt tk ps.1 = 19
  · rw [if_pos he]
    rcases he with h | h
    · rw [aIf_eqF l6 (by rw [h]; decide), aIf_eqF l6 (by rw [h]; decide), aIf_eqF l6 (by rw [h]; decide), aIf_eqT l6 h, aCall_1, aL_e, l5, ab_ok]
      rw [if_neg (by rw [h]; decide), if_neg (by rw [h]; decide), if_neg (by rw [h]; decide), if_neg (by rw [h]; decide), if_pos h]
      have := ctm_some (m_abstype (b := ps.1) htg hty hDg hD n f j B (by omega) hP.dn (by omega) hlt)
      rw [pEnter_pb, pAdv_pb] at this
      exact this
    · rw [aIf_eqF l6 (by rw [h]; decide), aIf_eqF l6 (by rw [h]; decide), aIf_eqT l6 h, aCall_1, aL_e, l5, ab_ok]
      rw [if_neg (by rw [h]; decide), if_neg (by rw [h]; decide), if_neg (by rw [h]; decide), if_neg (by rw [h]; decide), if_neg (by rw [h]; decide), if_neg (by rw [h]; decide), if_pos h]
      have := ctm_some (m_local (b := ps.1) hDg hD n f j B (by omega) hP.dn (by omega) hlt)
      rw [pEnter_pb, pAdv_pb] at this
      exact this
  · rw [if_neg he]
    simp only [not_or] at he
    refine ctm_adv fun _ => ?_
    by_cases h29 : vAt tk ps.1 = 29
    · rw [aIf_eqT l6 h29, aCall_1, aL_e, l5, ab_ok, if_pos h29]
      exact ctm_some (m_val hpg hpt hEg hE n (ps.1 + 1, ps.2) f j B (by omega) hPn (by dsimp only; omega))
    · rw [aIf_eqF l6 h29, if_neg h29]
      by_cases h12 : vAt tk ps.1 = 12
      · rw [aIf_eqT l6 h12, aCall_1, aL_e, l5, ab_ok, if_pos h12]
        exact ctm_some (m_fun htg hty' haq hqa hff hno htf hap hq hEg hE n (ps.1 + 1, ps.2) f j B (by omega) hPn (by dsimp only; omega))
      · rw [aIf_eqF l6 h12, if_neg h12, aIf_eqF l6 he.2, aIf_eqF l6 he.1, aCall_2, aL_e, ab_ok, aL_e, ab_ok, l5, l6]
        obtain ⟨n, rfl⟩ := suc1 (m := n) (by omega)
        have hPm := hPn.dn
        have hsw : ∀ i : Nat, (selL 4 [(6 , 1), (10 , 2), (23 , 3), (28 , 0)]) (vAt tk ps.1) = i → aM (n + 1) 87 [.int (vAt tk ps.1), .int (nI ps.1)] (stM (ps.1 + 1, ps.2) f j) = rn ((([(zRet (aCall (aM n) 16 [(aK 72), (aCall (aM n) 86 []), (aK (-1)), (aK (-1)), (aL 2)])), (zRet (aCall (aM n) 88 [(aL 2)])), (zRet (aCall (aM n) 16 [(aK 79), (aCall (aM n) 89 []), (aK (-1)), (aK (-1)), (aL 2)])), (zRet (aCall (aM n) 16 [(aK 83), (aCall (aM n) 90 []), (aK (-1)), (aK (-1)), (aL 2)])), (zSeq (zEx (aCall (aM n) 91 [(aL 1)])) (zRet (aK (-1))))] : List ZX).getD i zSkip) (A0of true [.int (vAt tk ps.1), .int (nI ps.1)]) (stM (ps.1 + 1, ps.2) f j)) (run [] nk) (run [] nk) nk := by
          intro i hi
          rw [eM_declaration, zM_declaration, amth_run, if_pos (show [Term.int (vAt tk ps.1), Term.int (nI ps.1)].length = 2 from rfl), fin_ok, run_sw, aL_e, show A0of true [Term.int (vAt tk ps.1), Term.int (nI ps.1)] 1 = .int (vAt tk ps.1) from rfl, kSw_ok, hi]
        have rr : ∀ (e : AX) (L : AL) (A : AS) (K B C : KT), rn (zRet e L A) K B C = e L A := by
          intro e L A K B C
          rw [rn_ret]
          match e L A with
          | none => rfl
          | some (none, A) => rfl
          | some (some v, A) => rfl
        have mk : ∀ (k : Int32) (t : Nat) (A : AS), aCall (aM n) 16 [(aK k), (aCall (aM n) t []), (aK (-1)), (aK (-1)), (aL 2)] (A0of true [.int (vAt tk ps.1), .int (nI ps.1)]) A = ab (aM n t [] A) fun l A => aM n 16 [.int k, l, .int (-1), .int (-1), .int (nI ps.1)] A := by
          intro k t A
          simp only [aCall_5, aK_e, ab_ok, aCall_nil, aL_e]
          rfl
        by_cases h28 : vAt tk ps.1 = 28
        · rw [hsw 0 (by rw [h28]; decide), if_pos h28]
          show CTm _ _ _ _ _ _ (rn (zRet _ _ _) _ _ _) _
          rw [rr, mk]
          exact ctm_li (by omega) (by decide) (by decide) (by omega) (by omega) (m_typeBindings htg hty n (ps.1 + 1, ps.2) f j (j.nn + 100 * (Tn tk - ps.1) - 21) (by omega) hPm (by dsimp only; omega))
        · rw [if_neg h28]
          by_cases h6 : vAt tk ps.1 = 6
          · rw [hsw 1 (by rw [h6]; decide), if_pos h6]
            show CTm _ _ _ _ _ _ (rn (zRet _ _ _) _ _ _) _
            rw [rr, aCall_1, aL_e, ab_ok]
            exact ctm_some (m_datatype htg hty n (ps.1 + 1, ps.2) f j B (by omega) hPm (by dsimp only; omega))
          · rw [if_neg h6, if_neg he.1]
            by_cases h10 : vAt tk ps.1 = 10
            · rw [hsw 2 (by rw [h10]; decide), if_pos h10]
              show CTm _ _ _ _ _ _ (rn (zRet _ _ _) _ _ _) _
              rw [rr, mk]
              exact ctm_li (by omega) (by decide) (by decide) (by omega) (by omega) (m_exceptions htg hty n (ps.1 + 1, ps.2) f j (j.nn + 100 * (Tn tk - ps.1) - 21) (by omega) hPm (by dsimp only; omega))
            · rw [if_neg h10, if_neg he.2]
              by_cases h23 : vAt tk ps.1 = 23
              · rw [hsw 3 (by rw [h23]; decide), if_pos h23]
                show CTm _ _ _ _ _ _ (rn (zRet _ _ _) _ _ _) _
                rw [rr, mk]
                exact ctm_li (by omega) (by decide) (by decide) (by omega) (by omega) (m_opened n (ps.1 + 1, ps.2) f j (j.nn + 100 * (Tn tk - ps.1) - 21) (by omega) hPm (by dsimp only; omega))
              · have hs : vAt tk ps.1 = 16 ∨ vAt tk ps.1 = 17 ∨ vAt tk ps.1 = 20 := by
                  rcases hv with h | h | h | h | h | h | h | h | h
                  · exact absurd h h29
                  · exact absurd h h12
                  · exact absurd h h28
                  · exact absurd h h6
                  · exact absurd h he.1
                  · exact absurd h h10
                  · exact absurd h he.2
                  · exact absurd h h23
                  · exact h
                rw [hsw 4 (by rcases hs with h | h | h <;> rw [h] <;> decide), if_neg h23]
                show CTm _ _ _ _ _ _ (rn (zSeq _ _ _ _) _ _ _) _
                rw [rn_seq, rn_ex, aCall_1, aL_e, ab_ok]
                refine ctm_bind (jfm.rf j) (m_changeFixities hs n (ps.1 + 1, ps.2) f j B (by omega) hPm (by dsimp only; omega)) fun _ ps' j' _ h1 h2 => ?_
                rw [rr]
                exact ctm_ret (em := ov) (v := none) h1 h2
end MDE
