/-! M: operators and operands -/
/-- an operand, with what it is applied to -/
def OpdM (W : Bool) (tk : TK) (n : Nat) (q : Bool) (opd : PA TR) : Prop := ∀ (α : Type) (em : α → V) (fo f : FM) (B : Nat) (ps : PS) (j j0 : AS) (LV : AL) (K B0 C0 : KT) (F : TR → PA α), PRM tk ps f j n → jfm W j0 j → LV 1 = .int (b2i q) → LV 3 = .int (nI ps.1) →
  (∀ t ps' j' LV', PG tk ps ps' → jfm W j0 j' → j'.nn + 100 * (Tn tk - ps'.1) + 50 ≤ j.nn + 100 * (Tn tk - ps.1) → LV' 4 = tv t → (∀ k, k ≠ 4 → LV' k = LV k) → CTm W em tk fo j0 B (K LV' (stM ps' f j')) (F t ps')) →
  CTm W em tk fo j0 B (rn ((zSet 4 (aIf (bZ .ne (aL 1)) (aCall (aM n) 23 []) (aCall (aM n) 53 []))) LV (stM ps f j)) (fun L A => rn ((zWh LN (bAnd (bNot (bZ .ne (aL 1))) (bZ .ne (aCall (aM n) 63 []))) (zSet 4 (aCall (aM n) 16 [(aK 15), (aL 4), (aCall (aM n) 53 []), (aK (-1)), (aL 3)])) zSkip) L A) K B0 C0) B0 C0) (pb opd F ps)
section MIF
variable {α β : Type} {W : Bool} {em : α → V} {em2 : β → V} {tk : TK} {f f1 f' fo : FM} {j j1 j' j0 : AS} {B B1 : Nat} {r : Option (Option V × AS)} {ps ps' : PS} {m n k k' : Nat} {LV : AL}
theorem opd_pat {opd : PA TR} {c : Nat} (hg : PGr tk opd) (hap : CoM W tv tk c 50 23 [] opd) (hn : c ≤ n) : OpdM W tk n true opd := by
  intro α em fo f B ps j j0 LV K B0 C0 F hP hj l1 l3 hK
  have hS := hP.2.2.2.2.2.2
  have e1 : ∀ (L : AL) (A : AS), L 1 = .int (b2i true) → bZ .ne (aL 1) L A = some (some true, A) := fun L A h => bZn_e (by rw [aL_e, h])
  rw [rn_set]
  unfold aIf
  rw [e1 _ _ l1, ab_ok, if_pos rfl, aCall_nil]
  refine ctm_bind (B1 := j.nn + 100 * (Tn tk - ps.1) - 50) hj (hap n ps f j _ hn hP (by omega)) fun t ps' j' hp hj' hB => ?_
  have hpg := hg ps t ps' hP.2.2.1 hp
  obtain ⟨h1, h2, h3, h4, h5⟩ := id hpg
  have e2 : ∀ A : AS, bAnd (bNot (bZ .ne (aL 1))) (bZ .ne (aCall (aM n) 63 [])) (va_up LV 4 (tv t)) A = some (some false, A) := by
    intro A
    unfold bAnd
    rw [bNot_e (e1 _ _ (by simpa [va_up] using l1))]
    rfl
  rw [show LN = 99999 + 1 from rfl, rn_wh, e2, ab_ok, if_neg (by decide)]
  exact hK t ps' j' _ hpg hj' (by omega) rfl (fun k hk => va_up_ne _ _ hk)
theorem m_opB (hn : 3 ≤ n) (hP : PRM tk ps f j k) {q : Bool} (l1 : LV 1 = .int (b2i q)) : (bOr (bZ .ne (aCall (aM n) 21 [])) (bAnd (bAnd (bNot (bZ .ne (aL 1))) (bZ .ne (aCall (aM n) 6 [(aK 45)]))) (bZ .ge (aAt 4 (aK 6))))) LV (stM ps f j) = some (some (opB tk q ps), stM ps f j) := by
  obtain ⟨ht, hT, hps, ha, ho, hfr, hS⟩ := id hP
  unfold opB
  have x6 := fxA_ok hps 6
  have e4 : bZ .ge (aAt 4 (aK 6)) LV (stM ps f j) = some (some (!decide (fxA ps.2.2.2.1 6 = 0)), stM ps f j) := by
    unfold bZ aAt
    rw [aK_e, ab_ok, sM_R4, sM_o4, fxm_at hps.1 (by decide) (by decide), aok_ok, ab_ok, cmp_i, hold_ge, fx_ge x6.1 x6.2]
    rfl
  exact bOr_e (mO n hn ht hT ha hps) (bAnd_e (bAnd_e (bNot_e (bZn_e (by rw [aL_e, l1]))) (mS n (by omega) ht hT ha 45)) e4)
theorem m_ops {q : Bool} {opd : PA TR} {o7 o8 : Nat} {b7 b8 : List V} (hn : 5 ≤ n) (ho : OpdM W tk n q opd) (N : Nat) :
    ∀ (M : Nat) (ops : OPS) (l : ODS) (ps : PS) (j : AS) (LV : AL) (K B0 C0 : KT) (B1 : Nat) (F : TR → PA α), M ≤ N → PRM tk ps ((o7, b7 ++ ovm l), (o8, b8 ++ opm ops)) j n → jfm W j0 j → OpsOK ops → (∀ o ∈ ops, o.1 ≤ 8191) → l.length = ops.length + 1 → LV 1 = .int (b2i q) → LV 2 = .int (nI (o8 + b8.length)) → j.nn + 100 * (Tn tk - ps.1) + 8 * ops.length ≤ B1 → B1 ≤ 29000 → fSm ((o7, b7 ++ ovm l), (o8, b8 ++ opm ops)) + j.nn + 8 * n + 100 * (Tn tk - ps.1) + 3 * ops.length ≤ 29000 →
    (∀ ops' l' ps' j' LV', PGe tk ps ps' → (∀ o ∈ ops', o.1 ≤ 8191) → l'.length = ops'.length + 1 → jfm W j0 j' → j'.nn + 100 * (Tn tk - ps'.1) + 8 * ops'.length ≤ B1 → fSm ((o7, b7 ++ ovm l'), (o8, b8 ++ opm ops')) + j'.nn + 8 * n + 100 * (Tn tk - ps'.1) ≤ 29000 → LV' 1 = .int (b2i q) → LV' 2 = .int (nI (o8 + b8.length)) → CTm W em tk fo j0 B (K LV' (stM ps' ((o7, b7 ++ ovm l'), (o8, b8 ++ opm ops')) j')) (pb (odsV (redA q ops' l')) F ps')) →
    CTm W em tk fo j0 B (rn (zWh (N + 1) (bOr (bZ .ne (aCall (aM n) 21 [])) (bAnd (bAnd (bNot (bZ .ne (aL 1))) (bZ .ne (aCall (aM n) 6 [(aK 45)]))) (bZ .ge (aAt 4 (aK 6))))) (zSeq (zSet 5 (aIf (bZ .ne (aCall (aM n) 6 [(aK 45)])) (aK 6) (aAt 1 (aF 13)))) (zSeq (zEx (aCall (aM n) 64 [(aL 2), (aAt 4 (aL 5))])) (zSeq (zWh LN (bZ .ne (aCall (aM n) 65 [(aL 2), (aAt 4 (aL 5))])) (zEx (aCall (aM n) 66 [(aL 1)])) zSkip) (zSeq (zAdd 18 (aL 5)) (zSeq (zAdd 18 (aAt 4 (aL 5))) (zSeq (zAdd 18 (aF 13)) (zSeq (zOpF oAdd 13 (aK 1)) (zSeq (zSet 3 (aF 13)) (zSeq (zAdd 17 (aF 13)) (zSeq (zSet 4 (aIf (bZ .ne (aL 1)) (aCall (aM n) 23 []) (aCall (aM n) 53 []))) (zSeq (zWh LN (bAnd (bNot (bZ .ne (aL 1))) (bZ .ne (aCall (aM n) 63 []))) (zSet 4 (aCall (aM n) 16 [(aK 15), (aL 4), (aCall (aM n) 53 []), (aK (-1)), (aL 3)])) zSkip) (zAdd 17 (aL 4))))))))))))) zSkip LV (stM ps ((o7, b7 ++ ovm l), (o8, b8 ++ opm ops)) j)) K B0 C0) (pb (pOps tk q opd M ops l) F ps) := by
  induction N with
  | zero =>
    intro M ops l ps j LV K B0 C0 B1 F hM
    have : M = 0 := by omega
    subst this
    intros
    exact trivial
  | succ N ih =>
    intro M ops l ps j LV K B0 C0 B1 F hM hP hj hO hnm hll l1 l2 hB hB9 hX hK
    cases M with
    | zero => exact trivial
    | succ M =>
      obtain ⟨ht, hT, hps, ha, hop, hfr, hS⟩ := id hP
      have hA : ALM = 30000 := rfl
      have hil0 : (b7 ++ ovm l).length = b7.length + 2 * l.length := by rw [List.length_append, ovm_len]
      have hil : fSm ((o7, b7 ++ ovm l), (o8, b8 ++ opm ops)) = o7 + (b7.length + 2 * l.length) + o8 + (b8.length + 3 * ops.length) := by simp only [fSm, List.length_append, ovm_len, opm_len]
      rw [rn_wh, m_opB (by omega) hP l1, ab_ok]
      cases hb : opB tk q ps with
      | false =>
        rw [if_neg (by decide), pb_at (p' := odsV (redA q ops l)) (ps' := ps) (by simp only [pOps, hb, Bool.false_eq_true, if_false])]
        exact hK ops l ps j LV (PGe.rf hps ha) hnm hll hj hB hS l1 l2
      | true =>
        -- the operator
        have facts : ps.1 < Tn tk ∧ (0 ≤ opV tk ps ∧ opV tk ps ≤ 8191) ∧ fxA ps.2.2.2.1 (opV tk ps) ≠ 0 ∧ ∀ L : AL, aIf (bZ .ne (aCall (aM n) 6 [(aK 45)])) (aK 6) (aAt 1 (aF 13)) L (stM ps ((o7, b7 ++ ovm l), (o8, b8 ++ opm ops)) j) = some (some (.int (opV tk ps)), stM ps ((o7, b7 ++ ovm l), (o8, b8 ++ opm ops)) j) := by
          unfold opB at hb
          cases h45 : sg tk ps.1 45 with
          | true =>
            have hlt : ps.1 < Tn tk := sg_lt h45
            have hk : kAt tk ps.1 = 1 := by
              unfold sg at h45
              exact of_decide_eq_true ((Bool.and_eq_true _ _).mp h45).1
            have hv : opV tk ps = 6 := by unfold opV; rw [if_pos hk]
            have hno : oprB tk ps.2.2.2.1 ps.1 = false := by
              unfold oprB nmB
              rw [hk]
              rfl
            rw [hno, h45, Bool.false_or, Bool.and_true] at hb
            refine ⟨hlt, by rw [hv]; decide, ?_, fun L => ?_⟩
            · rw [hv]
              have := ((Bool.and_eq_true _ _).mp hb).2
              simpa using this
            · unfold aIf
              rw [mS n (by omega) ht hT ha 45, h45, ab_ok, hv]
              rfl
          | false =>
            rw [h45, Bool.and_false, Bool.false_and, Bool.or_false] at hb
            have hn2 := (Bool.and_eq_true _ _).mp hb
            obtain ⟨hlt, hv⟩ := nm_val ht hn2.1
            have hk : ¬ kAt tk ps.1 = 1 := by
              intro e
              have := hn2.1
              unfold nmB at this
              rw [e] at this
              exact absurd this (by decide)
            have hvv : opV tk ps = vAt tk ps.1 := by unfold opV; rw [if_neg hk]
            refine ⟨hlt, by rw [hvv]; exact hv, ?_, fun L => ?_⟩
            · rw [hvv]
              have := hn2.2
              simpa using this
            · unfold aIf
              rw [mS n (by omega) ht hT ha 45, h45, ab_ok, if_neg (by decide), hvv, mAt1 ht hT hlt mF13]
        obtain ⟨hlt, ⟨hv0, hv1⟩, hfx, e5⟩ := facts
        generalize hnmv : opV tk ps = nm at hv0 hv1 hfx e5
        generalize hfxv : fxA ps.2.2.2.1 nm = fx at hfx
        have x01 := fxA_ok hps nm
        rw [hfxv] at x01
        have hfx1 : 1 ≤ fx := by
          have h0 := x01.1
          rw [Int32.le_iff_toInt_le] at h0 ⊢
          have z0 : (0 : Int32).toInt = 0 := by decide
          have z1 : (1 : Int32).toInt = 1 := by decide
          have hne : fx.toInt ≠ 0 := fun e => hfx (Int32.toInt_inj.mp (by rw [e, z0]))
          omega
        have e4 : ∀ (L : AL) (f : FM) (j : AS), L 5 = .int nm → aAt 4 (aL 5) L (stM ps f j) = some (some (.int (fx - 1)), stM ps f j) := by
          intro L f j h
          unfold aAt
          rw [aL_e, ab_ok, h, sM_R4, sM_o4, fxm_at hps.1 hv0 hv1, hfxv]
          rfl
        rw [if_pos rfl, rn_seq, rn_set, e5, ab_ok, rn_seq, rn_ex, aCall_2, aL_e, ab_ok, show va_up LV 5 (.int nm) 2 = LV 2 from rfl, l2, e4 _ _ _ rfl, ab_ok, m_checkOperator (by omega) (by omega) (by omega)]
        rw [pb_at (p' := fun ps => Option.elim (reds q fx ops l) (pflt 4 ps) fun r => pb opd (fun t => pOps tk q opd M ((nm, ps.1, fx) :: r.1) ((t, ps.1 + 1) :: r.2)) (ps.1 + 1, ps.2)) (ps' := ps) (by simp only [pOps, hb, if_true, hnmv, hfxv]), ]
        have hrd := reds_chk (q := q) hfx1 x01.2 (l := l) hO
        cases hc : chk fx ops with
        | true =>
          rw [hc, if_pos rfl] at hrd
          rw [if_pos rfl, ab_no, pb_flt (k := 4) (by rw [hrd]; rfl)]
          exact ctm_flt hj
        | false =>
          rw [hc, if_neg (by decide)] at hrd
          rw [if_neg (by decide), ab_ok]
          obtain ⟨c, k1, k2⟩ := m_rdl (n := n) (ps := ps) (q := q) (nm := nm) (fx := fx) (o7 := o7) (o8 := o8) (b7 := b7) (b8 := b8) (K := fun L A => rn ((zSeq (zAdd 18 (aL 5)) (zSeq (zAdd 18 (aAt 4 (aL 5))) (zSeq (zAdd 18 (aF 13)) (zSeq (zOpF oAdd 13 (aK 1)) (zSeq (zSet 3 (aF 13)) (zSeq (zAdd 17 (aF 13)) (zSeq (zSet 4 (aIf (bZ .ne (aL 1)) (aCall (aM n) 23 []) (aCall (aM n) 53 []))) (zSeq (zWh LN (bAnd (bNot (bZ .ne (aL 1))) (bZ .ne (aCall (aM n) 63 []))) (zSet 4 (aCall (aM n) 16 [(aK 15), (aL 4), (aCall (aM n) 53 []), (aK (-1)), (aL 3)])) zSkip) (zAdd 17 (aL 4)))))))))) L A) (fun L A => rn (zSkip L A) (fun L A => rn (zWh (N + 1) (bOr (bZ .ne (aCall (aM n) 21 [])) (bAnd (bAnd (bNot (bZ .ne (aL 1))) (bZ .ne (aCall (aM n) 6 [(aK 45)]))) (bZ .ge (aAt 4 (aK 6))))) (zSeq (zSet 5 (aIf (bZ .ne (aCall (aM n) 6 [(aK 45)])) (aK 6) (aAt 1 (aF 13)))) (zSeq (zEx (aCall (aM n) 64 [(aL 2), (aAt 4 (aL 5))])) (zSeq (zWh LN (bZ .ne (aCall (aM n) 65 [(aL 2), (aAt 4 (aL 5))])) (zEx (aCall (aM n) 66 [(aL 1)])) zSkip) (zSeq (zAdd 18 (aL 5)) (zSeq (zAdd 18 (aAt 4 (aL 5))) (zSeq (zAdd 18 (aF 13)) (zSeq (zOpF oAdd 13 (aK 1)) (zSeq (zSet 3 (aF 13)) (zSeq (zAdd 17 (aF 13)) (zSeq (zSet 4 (aIf (bZ .ne (aL 1)) (aCall (aM n) 23 []) (aCall (aM n) 53 []))) (zSeq (zWh LN (bAnd (bNot (bZ .ne (aL 1))) (bZ .ne (aCall (aM n) 63 []))) (zSet 4 (aCall (aM n) 16 [(aK 15), (aL 4), (aCall (aM n) 53 []), (aK (-1)), (aL 3)])) zSkip) (zAdd 17 (aL 4))))))))))))) zSkip L A) K B0 C0) B0 C0) (fun L A => K L A) (fun L A => rn (zSkip L A) (fun L A => rn (zWh (N + 1) (bOr (bZ .ne (aCall (aM n) 21 [])) (bAnd (bAnd (bNot (bZ .ne (aL 1))) (bZ .ne (aCall (aM n) 6 [(aK 45)]))) (bZ .ge (aAt 4 (aK 6))))) (zSeq (zSet 5 (aIf (bZ .ne (aCall (aM n) 6 [(aK 45)])) (aK 6) (aAt 1 (aF 13)))) (zSeq (zEx (aCall (aM n) 64 [(aL 2), (aAt 4 (aL 5))])) (zSeq (zWh LN (bZ .ne (aCall (aM n) 65 [(aL 2), (aAt 4 (aL 5))])) (zEx (aCall (aM n) 66 [(aL 1)])) zSkip) (zSeq (zAdd 18 (aL 5)) (zSeq (zAdd 18 (aAt 4 (aL 5))) (zSeq (zAdd 18 (aF 13)) (zSeq (zOpF oAdd 13 (aK 1)) (zSeq (zSet 3 (aF 13)) (zSeq (zAdd 17 (aF 13)) (zSeq (zSet 4 (aIf (bZ .ne (aL 1)) (aCall (aM n) 23 []) (aCall (aM n) 53 []))) (zSeq (zWh LN (bAnd (bNot (bZ .ne (aL 1))) (bZ .ne (aCall (aM n) 63 []))) (zSet 4 (aCall (aM n) 16 [(aK 15), (aL 4), (aCall (aM n) 53 []), (aK (-1)), (aL 3)])) zSkip) (zAdd 17 (aL 4))))))))))))) zSkip L A) K B0 C0) B0 C0)) (B0 := fun L A => K L A) (C0 := fun L A => rn (zSkip L A) (fun L A => rn (zWh (N + 1) (bOr (bZ .ne (aCall (aM n) 21 [])) (bAnd (bAnd (bNot (bZ .ne (aL 1))) (bZ .ne (aCall (aM n) 6 [(aK 45)]))) (bZ .ge (aAt 4 (aK 6))))) (zSeq (zSet 5 (aIf (bZ .ne (aCall (aM n) 6 [(aK 45)])) (aK 6) (aAt 1 (aF 13)))) (zSeq (zEx (aCall (aM n) 64 [(aL 2), (aAt 4 (aL 5))])) (zSeq (zWh LN (bZ .ne (aCall (aM n) 65 [(aL 2), (aAt 4 (aL 5))])) (zEx (aCall (aM n) 66 [(aL 1)])) zSkip) (zSeq (zAdd 18 (aL 5)) (zSeq (zAdd 18 (aAt 4 (aL 5))) (zSeq (zAdd 18 (aF 13)) (zSeq (zOpF oAdd 13 (aK 1)) (zSeq (zSet 3 (aF 13)) (zSeq (zAdd 17 (aF 13)) (zSeq (zSet 4 (aIf (bZ .ne (aL 1)) (aCall (aM n) 23 []) (aCall (aM n) 53 []))) (zSeq (zWh LN (bAnd (bNot (bZ .ne (aL 1))) (bZ .ne (aCall (aM n) 63 []))) (zSet 4 (aCall (aM n) 16 [(aK 15), (aL 4), (aCall (aM n) 53 []), (aK (-1)), (aL 3)])) zSkip) (zAdd 17 (aL 4))))))))))))) zSkip L A) K B0 C0) B0 C0) hn (by omega) e4 99999 ops l j (va_up LV 5 (.int nm)) (by omega) hll hnm (by omega) (by omega) (by omega) (by simpa [va_up] using l1) (by simpa [va_up] using l2) rfl
          have hlen2 := rdm_len (q := q) (f := fx) ops l hll
          have hOk := rdm_ok (q := q) (nm := nm) (pl := ps.1) hfx1 x01.2 ops l hO hc
          have hnm2 : ∀ o ∈ (rdm q fx ops l).1, o.1 ≤ 8191 := fun o ho => hnm o (rdm_mem ops l o ho)
          generalize hr : rdm q fx ops l = rr at k1 k2 hlen2 hOk hrd hnm2
          obtain ⟨ops2, l2'⟩ := rr
          dsimp only at k1 k2 hlen2 hOk hrd hnm2
          rw [rn_seq, show LN = 99999 + 1 from rfl, k2]
          rw [pb_at (p' := pb opd (fun t => pOps tk q opd M ((nm, ps.1, fx) :: ops2) ((t, ps.1 + 1) :: l2'))) (ps' := (ps.1 + 1, ps.2)) (by rw [hrd]; rfl), pb_pb]
          have hl8 : (b8 ++ opm ops2).length = b8.length + 3 * ops2.length := by rw [List.length_append, opm_len]
          have hl7 : (b7 ++ ovm l2').length = b7.length + 2 * l2'.length := by rw [List.length_append, ovm_len]
          have p1 := ma18 (ps := ps) (f := ((o7, b7 ++ ovm l2'), (o8, b8 ++ opm ops2))) (j := mkN j c) (v := .int nm) (by dsimp only; omega)
          have p2 := ma18 (ps := ps) (f := ((o7, b7 ++ ovm l2'), (o8, b8 ++ opm ops2 ++ [.int nm]))) (j := mkN j c) (v := .int (fx - 1)) (by dsimp only; simp only [List.length_append, List.length_singleton, opm_len]; omega)
          have p3 := ma18 (ps := ps) (f := ((o7, b7 ++ ovm l2'), (o8, b8 ++ opm ops2 ++ [.int nm] ++ [.int (fx - 1)]))) (j := mkN j c) (v := .int (nI ps.1)) (by dsimp only; simp only [List.length_append, List.length_singleton, opm_len]; omega)
          have er8 : b8 ++ opm ops2 ++ [.int nm] ++ [.int (fx - 1)] ++ [.int (nI ps.1)] = b8 ++ opm ((nm, ps.1, fx) :: ops2) := by rw [opm_cons]; simp
          have p4 := ma17 (ps := (ps.1 + 1, ps.2)) (f := ((o7, b7 ++ ovm l2'), (o8, b8 ++ opm ((nm, ps.1, fx) :: ops2)))) (j := mkN j c) (v := .int (nI (ps.1 + 1))) (by dsimp only; omega)
          rw [er8] at p3
          rw [rn_seq, rn_add, aL_e, ab_ok, show va_up LV 5 (.int nm) 5 = .int nm from rfl, p1, og_ok, rn_seq, rn_add, e4 _ _ _ rfl, ab_ok, p2, og_ok, rn_seq, rn_add, aF_e, ab_ok, sM_f13, p3, og_ok, rn_seq, rn_opF, aK_e, ab_ok, sM_f13, vbin_i, Option.bind_some, vput_i, og_ok, show oAdd (nI ps.1) 1 = nI (ps.1 + 1) from nI_1 _, sM_p13, rn_seq, rn_set, aF_e, ab_ok, sM_f13, rn_seq, rn_add, aF_e, ab_ok, sM_f13, p4, og_ok, rn_seq]
          simp only [rn_seq]
          have hf1 : fSm ((o7, b7 ++ ovm l2' ++ [.int (nI (ps.1 + 1))]), (o8, b8 ++ opm ((nm, ps.1, fx) :: ops2))) = o7 + (b7.length + 2 * l2'.length + 1) + o8 + (b8.length + 3 * (ops2.length + 1)) := by simp only [fSm, List.length_append, List.length_singleton, ovm_len, opm_len, List.length_cons, List.length_nil]
          refine ho α em fo _ B (ps.1 + 1, ps.2) (mkN j c) j0 _ _ _ _ _ (hP.at (Nat.le_succ _) hlt ((jfm.rf (W := W) j).mk _) (by rw [hf1, mkN_nn]; omega)) (hj.mk _) (by simpa [va_up] using l1) rfl fun t ps3 j3 L3 g3 hj3 hB3 m4 mk => ?_
          dsimp only at hB3
          rw [mkN_nn] at hB3
          have er7 : b7 ++ ovm l2' ++ [.int (nI (ps.1 + 1))] ++ [tv t] = b7 ++ ovm ((t, ps.1 + 1) :: l2') := by rw [ovm_cons]; simp
          have p5 := ma17 (ps := ps3) (f := ((o7, b7 ++ ovm l2' ++ [.int (nI (ps.1 + 1))]), (o8, b8 ++ opm ((nm, ps.1, fx) :: ops2)))) (j := j3) (v := tv t) (by dsimp only; simp only [List.length_append, List.length_singleton, ovm_len]; omega)
          rw [er7] at p5
          have gg : PG tk ps ps3 := PG.trans (PG.one hps hlt).e g3
          have c1 := g3.1
          have c2 := g3.2.1
          dsimp only at c1
          rw [rn_add, aL_e, ab_ok, m4, p5, og_ok, rn_skip]
          refine ih M ((nm, ps.1, fx) :: ops2) ((t, ps.1 + 1) :: l2') ps3 j3 L3 K B0 C0 B1 F (by omega) (hP.nx gg (hj.l hj3) (by simp only [fSm, List.length_append, ovm_len, opm_len, List.length_cons]; omega)) hj3 hOk ?_ (by simp; omega) ?_ ?_ (by simp; omega) hB9 (by simp only [fSm, List.length_append, ovm_len, opm_len, List.length_cons]; omega) fun ops' l' ps' j' LV' r1 r2 r3 r4 r5 r6 r7 r8 => ?_
          · intro o ho
            rcases List.mem_cons.mp ho with h | h
            · rw [h]; exact hv1
            · exact hnm2 o h
          · rw [mk 1 (by decide)]; simpa [va_up] using l1
          · rw [mk 2 (by decide)]; simpa [va_up] using l2
          · exact hK ops' l' ps' j' LV' (PGe.trans gg.e r1) r2 r3 r4 r5 r6 r7 r8
theorem redA_l1 {q : Bool} : ∀ (ops : OPS) (l : ODS), l.length = ops.length + 1 → (redA q ops l).length = 1 := by
  intro ops
  induction ops with
  | nil => intro l h; exact h
  | cons o ops ih =>
    intro l h
    unfold redA
    refine ih _ ?_
    match l, h with
    | (two, _) :: (one, b) :: r, h => simpa [red1] using h
    | [_], h => simp at h
theorem m_infix {q : Bool} {opd : PA TR} {c : Nat} (ho : ∀ n, c ≤ n → OpdM W tk n q opd) : CoM W tv tk (max c 6 + 1) 40 22 [.int (b2i q)] (pInf tk q opd) := by
  intro k ps f j B hk hP hB
  obtain ⟨n, rfl⟩ := suc1 (m := k) (by omega)
  obtain ⟨⟨o7, b7⟩, ⟨o8, b8⟩⟩ := f
  obtain ⟨ht, hT, hps, ha, hop, hfr, hS⟩ := id hP
  have hA : ALM = 30000 := rfl
  have hil : fSm ((o7, b7), (o8, b8)) = o7 + b7.length + o8 + b8.length := rfl
  rw [hil] at hS
  unfold pInf
  rw [eM_infix, zM_infix, amth_run, if_pos (show [Term.int (b2i q)].length = 1 from rfl), fin_ok, run_seq, run_set, aSz_e, kS_ok, sM_R18, sM_o18, run_seq, run_set, aF_e, kS_ok, sM_f13, run_seq, run_add, aF_e, kAD_ok, sM_f13, ma17 (by dsimp only; omega), og_ok, run_seq, run_rn]
  have e : run [zSeq (zWh LN (bAnd (bNot (bZ .ne (aL 1))) (bZ .ne (aCall (aM n) 63 []))) (zSet 4 (aCall (aM n) 16 [(aK 15), (aL 4), (aCall (aM n) 53 []), (aK (-1)), (aL 3)])) zSkip) (zSeq (zAdd 17 (aL 4)) (zSeq (zWh LN (bOr (bZ .ne (aCall (aM n) 21 [])) (bAnd (bAnd (bNot (bZ .ne (aL 1))) (bZ .ne (aCall (aM n) 6 [(aK 45)]))) (bZ .ge (aAt 4 (aK 6))))) (zSeq (zSet 5 (aIf (bZ .ne (aCall (aM n) 6 [(aK 45)])) (aK 6) (aAt 1 (aF 13)))) (zSeq (zEx (aCall (aM n) 64 [(aL 2), (aAt 4 (aL 5))])) (zSeq (zWh LN (bZ .ne (aCall (aM n) 65 [(aL 2), (aAt 4 (aL 5))])) (zEx (aCall (aM n) 66 [(aL 1)])) zSkip) (zSeq (zAdd 18 (aL 5)) (zSeq (zAdd 18 (aAt 4 (aL 5))) (zSeq (zAdd 18 (aF 13)) (zSeq (zOpF oAdd 13 (aK 1)) (zSeq (zSet 3 (aF 13)) (zSeq (zAdd 17 (aF 13)) (zSeq (zSet 4 (aIf (bZ .ne (aL 1)) (aCall (aM n) 23 []) (aCall (aM n) 53 []))) (zSeq (zWh LN (bAnd (bNot (bZ .ne (aL 1))) (bZ .ne (aCall (aM n) 63 []))) (zSet 4 (aCall (aM n) 16 [(aK 15), (aL 4), (aCall (aM n) 53 []), (aK (-1)), (aL 3)])) zSkip) (zAdd 17 (aL 4))))))))))))) zSkip) (zSeq (zWh LN (bCmp .gt (aSz 18) (aL 2)) (zEx (aCall (aM n) 66 [(aL 1)])) zSkip) (zSeq (zSet 5 (aPop 17)) (zSeq (zOpS oSub 17 (aK 1)) (zRet (aL 5)))))))] nk = fun L A => rn ((zWh LN (bAnd (bNot (bZ .ne (aL 1))) (bZ .ne (aCall (aM n) 63 []))) (zSet 4 (aCall (aM n) 16 [(aK 15), (aL 4), (aCall (aM n) 53 []), (aK (-1)), (aL 3)])) zSkip) L A) (run [(zSeq (zAdd 17 (aL 4)) (zSeq (zWh LN (bOr (bZ .ne (aCall (aM n) 21 [])) (bAnd (bAnd (bNot (bZ .ne (aL 1))) (bZ .ne (aCall (aM n) 6 [(aK 45)]))) (bZ .ge (aAt 4 (aK 6))))) (zSeq (zSet 5 (aIf (bZ .ne (aCall (aM n) 6 [(aK 45)])) (aK 6) (aAt 1 (aF 13)))) (zSeq (zEx (aCall (aM n) 64 [(aL 2), (aAt 4 (aL 5))])) (zSeq (zWh LN (bZ .ne (aCall (aM n) 65 [(aL 2), (aAt 4 (aL 5))])) (zEx (aCall (aM n) 66 [(aL 1)])) zSkip) (zSeq (zAdd 18 (aL 5)) (zSeq (zAdd 18 (aAt 4 (aL 5))) (zSeq (zAdd 18 (aF 13)) (zSeq (zOpF oAdd 13 (aK 1)) (zSeq (zSet 3 (aF 13)) (zSeq (zAdd 17 (aF 13)) (zSeq (zSet 4 (aIf (bZ .ne (aL 1)) (aCall (aM n) 23 []) (aCall (aM n) 53 []))) (zSeq (zWh LN (bAnd (bNot (bZ .ne (aL 1))) (bZ .ne (aCall (aM n) 63 []))) (zSet 4 (aCall (aM n) 16 [(aK 15), (aL 4), (aCall (aM n) 53 []), (aK (-1)), (aL 3)])) zSkip) (zAdd 17 (aL 4))))))))))))) zSkip) (zSeq (zWh LN (bCmp .gt (aSz 18) (aL 2)) (zEx (aCall (aM n) 66 [(aL 1)])) zSkip) (zSeq (zSet 5 (aPop 17)) (zSeq (zOpS oSub 17 (aK 1)) (zRet (aL 5)))))))] nk) nk nk := by
    funext L A
    rw [run_seq, run_rn]
  rw [e]
  have hf1 : fSm ((o7, b7 ++ [.int (nI ps.1)]), (o8, b8)) = o7 + b7.length + 1 + o8 + b8.length := by simp [fSm]; omega
  refine ho n (by omega) TR tv ((o7, b7), (o8, b8)) ((o7, b7 ++ [.int (nI ps.1)]), (o8, b8)) B ps j j (va_up (va_up (A0of true [.int (b2i q)]) 2 (.int (nI (o8 + b8.length)))) 3 (.int (nI ps.1))) _ nk nk _ ⟨ht, hT, hps, ha, hop, hfr, by rw [hf1]; omega⟩ (jfm.rf j) rfl rfl fun t ps1 j1 L1 g1 hj1 hB1 m4 mk => ?_
  obtain ⟨c1, c2, c3, c4, c5⟩ := id g1
  have er : b7 ++ [.int (nI ps.1)] ++ [tv t] = b7 ++ ovm [(t, ps.1)] := by simp [ovm]
  have p5 := ma17 (ps := ps1) (f := ((o7, b7 ++ [.int (nI ps.1)]), (o8, b8))) (j := j1) (v := tv t) (by dsimp only; simp; omega)
  rw [er] at p5
  rw [run_seq, run_add, aL_e, m4, kAD_ok, p5, og_ok, run_seq, run_rn, ← pb_ret (pOps tk q opd LF [] [(t, ps.1)])]
  have hf2 : fSm ((o7, b7 ++ ovm [(t, ps.1)]), (o8, b8 ++ opm [])) = o7 + b7.length + 2 + o8 + b8.length := by simp [fSm, ovm, opm]; omega
  have hb8 : b8 ++ opm [] = b8 := by simp [opm]
  have hPm : PRM tk ps1 ((o7, b7 ++ ovm [(t, ps.1)]), (o8, b8 ++ opm [])) j1 n := hP.nx g1 hj1 (by rw [hf2]; omega)
  have := m_ops (em := tv) (fo := ((o7, b7), (o8, b8))) (j0 := j) (B := B) (q := q) (o7 := o7) (o8 := o8) (b7 := b7) (b8 := b8) (by omega) (ho n (by omega)) 99999 LF [] [(t, ps.1)] ps1 j1 L1 (run [(zSeq (zWh LN (bCmp .gt (aSz 18) (aL 2)) (zEx (aCall (aM n) 66 [(aL 1)])) zSkip) (zSeq (zSet 5 (aPop 17)) (zSeq (zOpS oSub 17 (aK 1)) (zRet (aL 5)))))] nk) nk nk (j1.nn + 100 * (Tn tk - ps1.1)) (fun v => pret v) (by decide) hPm hj1 trivial (by simp) rfl (by rw [mk 1 (by decide)]; rfl) (by rw [mk 2 (by decide)]; rfl) (by simp) (by omega) (by rw [hf2]; simp; omega) fun ops' l' ps' j' LV' r1 r2 r3 r4 r5 r6 r7 r8 => ?_
  · rw [hb8] at this
    exact this
  · have hil2 : fSm ((o7, b7 ++ ovm l'), (o8, b8 ++ opm ops')) = o7 + (b7.length + 2 * l'.length) + o8 + (b8.length + 3 * ops'.length) := by simp only [fSm, List.length_append, ovm_len, opm_len]
    rw [hil2] at r6
    have hfr' : ps'.2.2.1 < 2 ^ 30 := by have := r1.2.2.2.1; omega
    obtain ⟨cc, k1, k2⟩ := m_rda (n := n) (ps := ps') (q := q) (o7 := o7) (o8 := o8) (b7 := b7) (b8 := b8) (K := run [zSeq (zSet 5 (aPop 17)) (zSeq (zOpS oSub 17 (aK 1)) (zRet (aL 5)))] nk) (B0 := nk) (C0 := nk) (by omega) hfr' 99999 ops' l' j' LV' (by omega) r3 r2 (by omega) (by omega) (by omega) r7 r8
    have hrl := redA_l1 (q := q) ops' l' r3
    generalize redA q ops' l' = ra at k2 hrl
    match ra, hrl with
    | [(u, b)], _ =>
      have er2 : b7 ++ ovm [(u, b)] = b7 ++ [.int (nI b)] ++ [tv u] := by simp [ovm]
      rw [er2] at k2
      rw [run_seq, run_rn, show LN = 99999 + 1 from rfl, k2, run_seq, run_set, mp17, kS_ok, run_seq, run_opS, aK_e, kOS_ok, sM_R17, sM_o17, msz17 (by omega), og_ok, run_ret, aL_e]
      show CTm W tv tk ((o7, b7), (o8, b8)) j B _ (some (.inl (u, ps')))
      exact ctm_ret (r4.mk _) (by rw [mkN_nn]; omega)
end MIF
