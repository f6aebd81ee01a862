/-! M: expressions, the loop -/
section MEX2
variable {α β : Type} {W : Bool} {em : α → V} {em2 : β → V} {tk : TK} {f f1 f' fo : FM} {j j1 j' j0 : AS} {B B1 a : Nat} {r : Option (Option V × AS)} {ps ps' : PS} {m n k k' : Nat} {LV : AL} {zs : List ZX} {ty pat E inf : PA TR} {c b : Nat}
def orR (b : Nat) (o : Option TR) (e : TR) : TR := match o with
  | none => e
  | some r => tChoose r (tName 0 (nI b)) e (nI b)
theorem aIf_f {c : BX} {x y : AX} {A A' : AS} (h : c LV A = some (some false, A')) : aIf c x y LV A = y LV A' := by
  unfold aIf
  rw [h, ab_ok, if_neg (by decide)]
theorem aIf_t {c : BX} {x y : AX} {A A' : AS} (h : c LV A = some (some true, A')) : aIf c x y LV A = x LV A' := by
  unfold aIf
  rw [h, ab_ok, if_pos rfl]
theorem pb_pret (p : PA α) : pb p pret = p := by
  funext ps
  unfold pb
  match p ps with
  | none => rfl
  | some (.inr e) => rfl
  | some (.inl (v, ps')) => rfl
/-- the heads of the loop, where an operand is read -/
def HdE (tk : TK) (ty pat E inf : PA TR) (f : FM) (j0 : AS) (B n b N : Nat) : Prop := ∀ (o3 o4 : Option TR) (b2 M M3 : Nat) (ps : PS) (j : AS) (LV : AL) (B0 C0 : KT), Tn tk - ps.1 < N → PRM tk ps f j (n + 1) → jfm false j0 j → j.nn + 100 * (Tn tk - ps.1) + 40 ≤ B → LV 1 = .int (nI b) → LV 2 = .int (nI b2) → (o3 = none → b2 = b) → (o4 = none → b2 = ps.1) → LV 3 = ov o3 → LV 4 = ov o4 → LV 5 = .int 1 →
  CTm false tv tk f j0 B (rn (zWh N (bZ .ne (aL 5)) (zEB (aM n)) zSkip LV (stM ps f j)) (run [zEH (aM n)] nk) B0 C0) (HHp tk ty pat E inf o3 o4 b b2 M M3 ps)
theorem m_and {N b2 M M3 : Nat} {o3 : Option TR} {e : TR} {B0 C0 K1 B2 C2 : KT} (hK1 : ∀ L A, K1 L A = rn (zWh N (bZ .ne (aL 5)) (zEB (aM n)) zSkip L A) (run [zEH (aM n)] nk) B0 C0) (hEq : EndQ tk (pMch tk pat E)) (hM : CoM false tLi tk c 40 17 [] (pMch tk pat E)) (hn : max c 6 ≤ n) (ih : HdE tk ty pat E inf f j0 B n b N) (hN : Tn tk - ps.1 ≤ N) (hP : PRM tk ps f j (n + 1)) (hj : jfm false j0 j) (hB : j.nn + 100 * (Tn tk - ps.1) + 10 ≤ B) (hSx : fSm f + j.nn + 8 * (n + 1) + 100 * (Tn tk - ps.1) + 10 ≤ 29000) (h40 : sg tk ps.1 40 = false) (l1 : LV 1 = .int (nI b)) (l2 : LV 2 = .int (nI b2)) (hb2 : o3 = none → b2 = b) (l3 : LV 3 = ov o3) (l4 : LV 4 = tv e) (l5 : LV 5 = .int 1) (l6 : LV 6 = .int 0) (hN0 : 0 < N) :
    CTm false tv tk f j0 B (rn (zE2i (aM n) LV (stM ps f j)) K1 B2 C2) (LoD tk ty pat E inf o3 b b2 M M3 e ps) := by
  obtain ⟨ht, hT, hps, ha, hop0, hfr, hS⟩ := id hP
  have hA : ALM = 30000 := rfl
  have d6 : ∀ (L : AL) (A : AS), L 6 = .int 0 → bZ .ne (aL 6) L A = some (some false, A) := fun L A h => bZn_e (x := false) (by rw [aL_e, h]; rfl)
  have ec : (bOr (bZ .ne (aL 6)) (bNot (bZ .ne (aCall (aM n) 9 [(aK 3)])))) LV (stM ps f j) = some (some (!sg tk ps.1 3), stM (if sg tk ps.1 3 = true then (ps.1 + 1, ps.2) else ps) f j) := by
    unfold bOr
    rw [d6 _ _ l6, ab_ok, if_neg (by decide)]
    unfold bNot
    rw [m_eatB (by omega) hP, ab_ok]
  unfold zE2i
  rw [rn_if, ec, ab_ok]
  cases h3 : sg tk ps.1 3 with
  | true =>
    have hlt : ps.1 < Tn tk := sg_lt h3
    rw [if_neg (by decide), if_pos rfl, rn_skip, hK1]
    have fin := fun M M3 => ih o3 (some e) b2 M M3 (ps.1 + 1, ps.2) j LV B0 C0 (by dsimp only; omega) (hP.one hlt) hj (by dsimp only; omega) l1 l2 hb2 (fun h => by cases h) l3 l4 l5
    match o3, hb2, fin with
    | none, hb2, fin =>
      show CTm _ _ _ _ _ _ _ (pT0 tk ty pat E inf b M e ps)
      cases M with
      | zero => exact trivial
      | succ M =>
        have hb := hb2 rfl
        subst hb
        have e1 : pT0 tk ty pat E inf b2 (M + 1) e ps = HHp tk ty pat E inf none (some e) b2 b2 M M3 (ps.1 + 1, ps.2) := by
          simp only [pT0, pEt, h40, h3, Bool.false_eq_true, if_false, show decide ((0 : Int32) ≤ 3) = true from by decide, Bool.and_self, if_true]
          rfl
        rw [e1]
        exact fin M M3
    | some r, hb2, fin =>
      show CTm _ _ _ _ _ _ _ (pb (pT3 tk ty pat E inf b2 M3 e) _ ps)
      cases M3 with
      | zero => exact trivial
      | succ M3 =>
        rw [pb_at (p' := pb (pE4 tk ty pat E inf) fun y => pT3 tk ty pat E inf b2 M3 (tChoose e y (tName 1 (nI b2)) (nI b2))) (ps' := (ps.1 + 1, ps.2)) (by simp only [pT3, pEt, h40, h3, Bool.false_eq_true, if_false, show decide ((3 : Int32) ≤ 3) = true from by decide, Bool.and_self, if_true]), pb_pb]
        exact fin M M3
  | false =>
    rw [if_pos (by decide), if_neg (by decide)]
    -- the left side of orelse stands
    have key : ∀ (r' : TR) (j2 : AS) (L2 : AL), jfm false j0 j2 → PRM tk ps f j2 (n + 1) → j2.nn + 100 * (Tn tk - ps.1) ≤ B → L2 1 = .int (nI b) → L2 3 = tv r' → L2 6 = .int 0 → CTm false tv tk f j0 B (rn ((zSeq (zSet 4 (aK (-1))) (zSeq (zSet 5 (aIf (bAnd (bNot (bZ .ne (aL 6))) (bZ .ne (aCall (aM n) 9 [(aK 24)]))) (aK 1) (aK 0))) (zSet 2 (aF 13)))) L2 (stM ps f j2)) K1 B2 C2) (pT0 tk ty pat E inf b M r' ps) := by
      intro r' j2 L2 hj2 hP2 hB2 k1 k3 k6
      rw [rn_seq, rn_set, aK_e, ab_ok, rn_seq, rn_set]
      have ec2 : (bAnd (bNot (bZ .ne (aL 6))) (bZ .ne (aCall (aM n) 9 [(aK 24)]))) (va_up L2 4 (.int (-1))) (stM ps f j2) = some (some (sg tk ps.1 24), stM (if sg tk ps.1 24 = true then (ps.1 + 1, ps.2) else ps) f j2) := by
        unfold bAnd
        rw [bNot_e (d6 _ _ (by simpa [va_up] using k6)), ab_ok, if_pos (by decide), m_eatB (by omega) hP2]
      rw [aIf01 ec2, ab_ok, rn_set, aF_e, ab_ok, hK1]
      cases h24 : sg tk ps.1 24 with
      | true =>
        have hlt : ps.1 < Tn tk := sg_lt h24
        rw [if_pos rfl, sM_f13]
        cases M with
        | zero => exact trivial
        | succ M =>
          have e1 : pT0 tk ty pat E inf b (M + 1) r' ps = HHp tk ty pat E inf (some r') none b (ps.1 + 1) M 0 (ps.1 + 1, ps.2) := by
            simp only [pT0, pEt, h40, h3, h24, Bool.false_eq_true, if_false, Bool.and_false, show decide ((0 : Int32) ≤ 2) = true from by decide, Bool.and_self, if_true]
            rfl
          rw [e1]
          exact ih (some r') none (ps.1 + 1) M 0 (ps.1 + 1, ps.2) j2 _ B0 C0 (by dsimp only; omega) (hP2.one hlt) hj2 (by dsimp only; omega) (by simpa [va_up] using k1) rfl (fun h => by cases h) (fun _ => rfl) (by simpa [va_up, ov] using k3) rfl rfl
      | false =>
        rw [if_neg (by decide)]
        obtain ⟨N', rfl⟩ : ∃ N', N = N' + 1 := ⟨N - 1, by omega⟩
        rw [rn_wh, bZn_e (x := false) (by rw [aL_e]; rfl), ab_ok, if_neg (by decide)]
        exact m_hdl hEq hM hn hP2 hj2 hB2 h40 h3 h24 (by simpa [va_up] using k1) (by simpa [va_up] using k3)
    rw [rn_seq, rn_set]
    unfold aIf
    rw [bZlt_ov l3, ab_ok]
    match o3, hb2, l3 with
    | none, hb2, l3 =>
      rw [if_pos (show (none : Option TR).isNone = true from rfl), aL_e, ab_ok, l4]
      exact key e j _ hj hP (by omega) (by simpa [va_up] using l1) rfl (by simpa [va_up] using l6)
    | some r, hb2, l3 =>
      show CTm _ _ _ _ _ _ _ (pb (pT3 tk ty pat E inf b2 M3 e) _ ps)
      cases M3 with
      | zero => exact trivial
      | succ M3 =>
        rw [pb_val (v := e) (ps' := ps) (by simp only [pT3, pEt, h40, h3, Bool.false_eq_true, if_false, Bool.and_false, show decide ((3 : Int32) ≤ 2) = false from by decide, show decide ((3 : Int32) ≤ 1) = false from by decide, Bool.false_and])]
        have q1 := m_name (m := n) (ps := ps) (f := f) (j := j) (i := 0) (p := nI b) (by omega) (by omega) (by decide) (by omega)
        have q2 := m_choice (m := n) (ps := ps) (f := f) (j := mkN j 1) (test := r) (yes := tName 0 (nI b)) (els := e) (p := nI b) (by omega) (by rw [mkN_nn]; omega) (by omega)
        rw [if_neg (show ¬ (some r).isNone = true from by simp)]
        have l3' : LV 3 = tv r := l3
        simp only [aCall, aArgs, aK, aL, ab_ok, A0of, va_up, List.length_nil, List.length_cons, List.getD_cons_zero, List.getD_cons_succ, List.getD_nil, if_true, if_false, Bool.not_not, Bool.not_true, Bool.not_false, Bool.false_eq_true, reduceIte, Nat.reduceSub, Nat.reduceAdd, Nat.reduceEqDiff, l1, l3', l4, q1, q2]
        exact key _ (mkN (mkN j 1) 8) _ ((hj.mk _).mk _) (hP.mkf (W := false) (((jfm.rf j).mk _).mk _) (by simp only [mkN_nn]; omega)) (by simp only [mkN_nn]; omega) (by simpa [va_up] using l1) rfl (by simpa [va_up] using l6)
theorem ctm_pbg {p : PA α} {F : α → PA β} (h : CTm W em2 tk f j B r (pb p F ps)) : CTm W em2 tk f j B r (pb (grE tk p) F ps) := ctm_pbE (F' := fun v ps' => @ite _ (PG tk ps ps') (Classical.propDecidable _) (F v ps') none) (fun v ps' h => if_pos h) (fun v ps' h => if_neg h) (by
  unfold pb at *
  cases hp : p ps with
  | none => exact trivial
  | some q =>
    rw [hp] at h
    match q, h with
    | .inr e, h => exact h
    | .inl (v, ps'), h =>
      dsimp only at h ⊢
      by_cases hg : PG tk ps ps'
      · simp only [hg, if_true]
        exact h
      · simp only [hg, if_false]
        exact trivial)
theorem m_hbody {N : Nat} {o3 o4 : Option TR} {b2 M M3 : Nat} {B0 C0 K1 B2 C2 : KT} (hK1 : ∀ L A, K1 L A = rn (zWh N (bZ .ne (aL 5)) (zEB (aM n)) zSkip L A) (run [zEH (aM n)] nk) B0 C0) (htg : PGr tk ty) (hty : CoM false tv tk c 30 35 [] ty) (hEg : PGr tk E) (hE : CoM false tv tk c 30 12 [] E) (hQ : EndQ tk E) (hM : CoM false tLi tk c 40 17 [] (pMch tk pat E)) (hI : CoM false tv tk c 40 22 [.int 0] inf) (hn : max c 6 + 1 ≤ n) (ih : HdE tk ty pat E inf f j0 B n b N)
    (hN : Tn tk - ps.1 < N + 1) (hP : PRM tk ps f j (n + 1)) (hj : jfm false j0 j) (hB : j.nn + 100 * (Tn tk - ps.1) + 40 ≤ B) (l1 : LV 1 = .int (nI b)) (l2 : LV 2 = .int (nI b2)) (hb : o3 = none → b2 = b) (hb2 : o4 = none → b2 = ps.1) (l3 : LV 3 = ov o3) (l4 : LV 4 = ov o4) (l5 : LV 5 = .int 1) :
    CTm false tv tk f j0 B (rn (zEB (aM n) LV (stM ps f j)) K1 B2 C2) (HHp tk ty pat E inf o3 o4 b b2 M M3 ps) := by
  obtain ⟨ht, hT, hps, ha, hop0, hfr, hS⟩ := id hP
  have hA : ALM = 30000 := rfl
  have hEq := endq_mch (pat := pat) hQ
  by_cases hoo : o3 = none ∧ o4 = none
  · obtain ⟨rfl, rfl⟩ := hoo
    exact trivial
  have h6 : (bAnd (bOr (bZ .ge (aL 3)) (bZ .ge (aL 4))) (bZ .ne (aCall (aM n) 13 []))) LV (stM ps f j) = some (some (fmB tk ps.1), stM ps f j) := by
    rw [bAnd_e (bOr_e (bZge_ov l3 _) (bZge_ov l4 _)) (aCall0_b (m_isForm (by omega) ht hT ha))]
    cases o3 <;> cases o4 <;> simp_all
  unfold zEB
  rw [rn_seq, rn_set, aIf01 h6, ab_ok, rn_seq, rn_set, aF_e, ab_ok, sM_f13, rn_seq, rn_set]
  have e6 : ∀ A : AS, bZ .ne (aL 6) (va_up (va_up LV 6 (.int (b2i (fmB tk ps.1)))) 7 (.int (nI ps.1))) A = some (some (fmB tk ps.1), A) := fun A => bZn_e (by rw [aL_e]; rfl)
  unfold aIf
  rw [e6, ab_ok]
  -- choose, where the right side of andalso is read
  have h4e : ∀ (e y : TR) (ps2 : PS) (j2 : AS) (L2 : AL), L2 2 = .int (nI b2) → L2 4 = ov (some e) → L2 8 = tv y → PRM tk ps2 f j2 (n + 1) → j2.nn + 9 ≤ ALM → (aIf (bZ .lt (aL 4)) (aL 8) (aCall (aM n) 67 [(aL 4), (aL 8), (aCall (aM n) 49 [(aK 1), (aL 2)]), (aL 2)])) L2 (stM ps2 f j2) = some (some (tv (tChoose e y (tName 1 (nI b2)) (nI b2))), stM ps2 f (mkN j2 9)) := by
    intro e y ps2 j2 L2 k2 k4 k8 hP2 hnn
    have hfr2 := hP2.2.2.2.2.2.1
    have q1 := m_name (m := n) (ps := ps2) (f := f) (j := j2) (i := 1) (p := nI b2) (by omega) (by omega) (by decide) (by omega)
    have q2 := m_choice (m := n) (ps := ps2) (f := f) (j := mkN j2 1) (test := e) (yes := y) (els := tName 1 (nI b2)) (p := nI b2) (by omega) (by rw [mkN_nn]; omega) (by omega)
    have k4' : L2 4 = tv e := k4
    unfold aIf
    rw [bZlt_ov k4, ab_ok, if_neg (show ¬ (some e).isNone = true from by simp)]
    simp only [aCall, aArgs, aK, aL, ab_ok, A0of, va_up, List.length_nil, List.length_cons, List.getD_cons_zero, List.getD_cons_succ, List.getD_nil, if_true, if_false, Bool.not_not, Bool.not_true, Bool.not_false, Bool.false_eq_true, reduceIte, Nat.reduceSub, Nat.reduceAdd, Nat.reduceEqDiff, k2, k4', k8, q1, q2]
    rfl
  have h4n : ∀ (y : TR) (A : AS) (L2 : AL), L2 4 = ov none → L2 8 = tv y → (aIf (bZ .lt (aL 4)) (aL 8) (aCall (aM n) 67 [(aL 4), (aL 8), (aCall (aM n) 49 [(aK 1), (aL 2)]), (aL 2)])) L2 A = some (some (tv y), A) := by
    intro y A L2 k4 k8
    unfold aIf
    rw [bZlt_ov k4, ab_ok, if_pos (show (none : Option TR).isNone = true from rfl), aL_e, k8]
  cases hfm : fmB tk ps.1 with
  | true =>
    -- a form ends all
    rw [if_pos rfl, aCall_nil]
    have fin : ∀ (y : TR) (M : Nat) (ps2 : PS) (j2 : AS) (L2 : AL) (e : TR), PG tk ps ps2 → Q4 tk ps2.1 → jfm false j0 j2 → j2.nn + 100 * (Tn tk - ps2.1) + 20 ≤ B → fSm f + j2.nn + 8 * (n + 1) + 100 * (Tn tk - ps2.1) + 20 ≤ 29000 → L2 1 = .int (nI b) → L2 3 = ov o3 → L2 4 = tv e → L2 6 = .int 1 →
        CTm false tv tk f j0 B (rn (zE2i (aM n) L2 (stM ps2 f j2)) K1 B2 C2) (pT0 tk ty pat E inf b M (orR b o3 e) ps2) := by
      intro y M ps2 j2 L2 e g2 q hj2 hB2 hS2 k1 k3 k4 k6
      have hP2 : PRM tk ps2 f j2 (n + 1) := hP.nx g2 (hj.l hj2) (by omega)
      have hfr2 := hP2.2.2.2.2.2.1
      have d6 : ∀ (L : AL) (A : AS), L 6 = .int 1 → bZ .ne (aL 6) L A = some (some true, A) := fun L A h => bZn_e (x := true) (by rw [aL_e, h]; rfl)
      have c1 : (bOr (bZ .ne (aL 6)) (bNot (bZ .ne (aCall (aM n) 9 [(aK 3)])))) L2 (stM ps2 f j2) = some (some true, stM ps2 f j2) := by
        unfold bOr
        rw [d6 _ _ k6, ab_ok, if_pos rfl]
      unfold zE2i
      rw [rn_if, c1, ab_ok, if_pos rfl, rn_seq, rn_set]
      have key : ∀ (r' : TR) (j3 : AS) (L3 : AL), jfm false j0 j3 → PRM tk ps2 f j3 (n + 1) → j3.nn + 100 * (Tn tk - ps2.1) ≤ B → L3 1 = .int (nI b) → L3 3 = tv r' → L3 6 = .int 1 → CTm false tv tk f j0 B (rn ((zSeq (zSet 4 (aK (-1))) (zSeq (zSet 5 (aIf (bAnd (bNot (bZ .ne (aL 6))) (bZ .ne (aCall (aM n) 9 [(aK 24)]))) (aK 1) (aK 0))) (zSet 2 (aF 13)))) L3 (stM ps2 f j3)) K1 B2 C2) (pT0 tk ty pat E inf b M r' ps2) := by
        intro r' j3 L3 hj3 hP3 hB3 k1 k3 k6
        have ec2 : (bAnd (bNot (bZ .ne (aL 6))) (bZ .ne (aCall (aM n) 9 [(aK 24)]))) (va_up L3 4 (.int (-1))) (stM ps2 f j3) = some (some false, stM ps2 f j3) := by
          unfold bAnd
          rw [bNot_e (d6 _ _ (by simpa [va_up] using k6)), ab_ok, if_neg (by decide)]
        rw [rn_seq, rn_set, aK_e, ab_ok, rn_seq, rn_set, aIf01 ec2, ab_ok, rn_set, aF_e, ab_ok, hK1]
        obtain ⟨N', rfl⟩ : ∃ N', N = N' + 1 := ⟨N - 1, by have := fm_lt hfm; omega⟩
        rw [rn_wh, bZn_e (x := false) (by rw [aL_e]; rfl), ab_ok, if_neg (by decide)]
        exact m_hdl hEq hM (by omega) hP3 hj3 hB3 q.1 q.2.1 q.2.2.1 (by simpa [va_up] using k1) (by simpa [va_up] using k3)
      unfold aIf
      rw [bZlt_ov k3, ab_ok]
      match o3, k3 with
      | none, k3 =>
        rw [if_pos (show (none : Option TR).isNone = true from rfl), aL_e, ab_ok, k4]
        exact key e j2 _ hj2 hP2 (by omega) (by simpa [va_up] using k1) rfl (by simpa [va_up] using k6)
      | some r, k3 =>
        have q1 := m_name (m := n) (ps := ps2) (f := f) (j := j2) (i := 0) (p := nI b) (by omega) (by omega) (by decide) (by omega)
        have q2 := m_choice (m := n) (ps := ps2) (f := f) (j := mkN j2 1) (test := r) (yes := tName 0 (nI b)) (els := e) (p := nI b) (by omega) (by rw [mkN_nn]; omega) (by omega)
        rw [if_neg (show ¬ (some r).isNone = true from by simp)]
        have k3' : L2 3 = tv r := k3
        simp only [aCall, aArgs, aK, aL, ab_ok, A0of, va_up, List.length_nil, List.length_cons, List.getD_cons_zero, List.getD_cons_succ, List.getD_nil, if_true, if_false, Bool.not_not, Bool.not_true, Bool.not_false, Bool.false_eq_true, reduceIte, Nat.reduceSub, Nat.reduceAdd, Nat.reduceEqDiff, k1, k3', k4, q1, q2]
        exact key _ (mkN (mkN j2 1) 8) _ ((hj2.mk _).mk _) (hP2.mkf (W := false) (((jfm.rf j2).mk _).mk _) (by simp only [mkN_nn]; omega)) (by simp only [mkN_nn]; omega) (by simpa [va_up] using k1) rfl (by simpa [va_up] using k6)
    have ety : ∀ (L : AL) (A : AS) (K B0 C0 : KT), L 6 = .int 1 → rn (zWh LN (zEtB (aM n)) (zEtS (aM n)) zSkip L A) K B0 C0 = K L A := by
      intro L A K B0 C0 k6
      have c1 : zEtB (aM n) L A = some (some false, A) := by
        unfold zEtB bAnd
        rw [bNot_e (x := true) (bZn_e (x := true) (by rw [aL_e, k6]; rfl)), ab_ok, if_neg (by decide)]
      rw [show LN = 99999 + 1 from rfl, rn_wh, c1, ab_ok, if_neg (by decide)]
    have hform : ∀ (F : TR → PA TR) (g : V → AS → Option (Option V × AS)), (∀ y ps2 j2, PG tk ps ps2 → Q4 tk ps2.1 → jfm false j0 j2 → j2.nn + 100 * (Tn tk - ps2.1) + 60 ≤ j.nn + 100 * (Tn tk - ps.1) → CTm false tv tk f j0 B (g (tv y) (stM ps2 f j2)) (F y ps2)) → CTm false tv tk f j0 B (ab (aM n 14 [] (stM ps f j)) g) (pb (grE tk (pForm tk pat E)) F ps) := by
      intro F g hk
      have hlt := (fm_lt hfm).2
      refine ctm_bind (B1 := j.nn + 100 * (Tn tk - ps.1) - 60) hj (ctm_gE (m_form hEg hE hM hfm n f j _ (by omega) hP.dn (by omega))) fun y ps2 j2 hp hj2 hB2 => ?_
      exact hk y ps2 j2 (grE_ok hp) (endq_form hQ _ _ _ (grE_inv hp)) hj2 (by omega)
    have hfe : ∀ (lv : Int32) (e3 e4 : PA TR) (F : TR → PA TR), pb (pEl tk lv ty pat E inf e3 e4) F ps = pb (grE tk (pForm tk pat E)) F ps := by
      intro lv e3 e4 F
      refine pb_at ?_
      unfold pEl grE
      simp only [hfm, if_true]
    match o3, o4, hoo, hb, hb2, l3, l4, h4e, h4n, fin with
    | none, none, hoo, _, _, _, _, _, _, _ => exact absurd ⟨rfl, rfl⟩ hoo
    | some r, none, hoo, hb, hb2, l3, l4, h4e, h4n, fin =>
      show CTm _ _ _ _ _ _ _ (pb (pE3 tk ty pat E inf) _ ps)
      rw [hfe]
      refine hform _ _ fun y ps2 j2 g2 q hj2 hB2 => ?_
      have g21 := g2.1
      rw [rn_seq, ety _ _ _ _ _ rfl, rn_seq]
      unfold zE24
      rw [rn_set, h4n y _ _ (by simpa [va_up] using l4) rfl, ab_ok]
      exact fin y M ps2 j2 _ y g2 q hj2 (by omega) (by omega) (by simpa [va_up] using l1) (by simpa [va_up] using l3) rfl rfl
    | o3, some e, hoo, hb, hb2, l3, l4, h4e, h4n, fin =>
      have es : HHp tk ty pat E inf o3 (some e) b b2 M M3 = pb (pE4 tk ty pat E inf) fun y => LoD tk ty pat E inf o3 b b2 M M3 (tChoose e y (tName 1 (nI b2)) (nI b2)) := by cases o3 <;> rfl
      rw [es, hfe]
      refine hform _ _ fun y ps2 j2 g2 q hj2 hB2 => ?_
      have g21 := g2.1
      rw [rn_seq, ety _ _ _ _ _ rfl, rn_seq]
      unfold zE24
      rw [rn_set, h4e e y ps2 j2 _ (by simpa [va_up] using l2) (by simpa [va_up] using l4) rfl (hP.nx g2 (hj.l hj2) (by omega)) (by omega), ab_ok]
      have fi := fun M => fin y M ps2 (mkN j2 9) (va_up (va_up (va_up (va_up LV 6 (.int (b2i true))) 7 (.int (nI ps.1))) 8 (tv y)) 4 (tv (tChoose e y (tName 1 (nI b2)) (nI b2)))) (tChoose e y (tName 1 (nI b2)) (nI b2)) g2 q (hj2.mk _) (by rw [mkN_nn]; omega) (by rw [mkN_nn]; omega) (by simpa [va_up] using l1) (by simpa [va_up] using l3) rfl rfl
      match o3, fi with
      | none, fi => exact fi M
      | some r, fi =>
        show CTm _ _ _ _ _ _ _ (pb (pT3 tk ty pat E inf b2 M3 _) _ ps2)
        cases M3 with
        | zero => exact trivial
        | succ M3 =>
          rw [pb_val (pet_q4 q)]
          exact fi M
  | false =>
    rw [if_neg (by decide), aCall_1, aK_e, ab_ok]
    have hfe : ∀ (lv : Int32) (e3 e4 : PA TR) (F : TR → PA TR) (q : Option (Option V × AS)), CTm false tv tk f j0 B q (pb (pb (grE tk inf) fun e => pEt tk lv ty pat E e3 e4 ps.1 LF e) F ps) → CTm false tv tk f j0 B q (pb (pEl tk lv ty pat E inf e3 e4) F ps) := by
      intro lv e3 e4 F q hq
      unfold pEl
      refine ctm_pbg ?_
      rw [pb_at (p := fun ps => if fmB tk ps.1 = true then pForm tk pat E ps else pb (grE tk inf) (fun e => pEt tk lv ty pat E e3 e4 ps.1 LF e) ps) (p' := pb (grE tk inf) (fun e => pEt tk lv ty pat E e3 e4 ps.1 LF e)) (ps' := ps) (by simp only [hfm, Bool.false_eq_true, if_false])]
      exact hq
    have hopd : ∀ (lv : Int32) (e3 e4 : PA TR) (F : TR → PA TR) (K B0 C0 : KT), (∀ M' e' ps' j' LV', sg tk ps'.1 40 = false → ps.1 < ps'.1 → PRM tk ps' f j' (n + 1) → jfm false j0 j' → j'.nn + 100 * (Tn tk - ps'.1) + 40 ≤ j.nn + 100 * (Tn tk - ps.1) → LV' 8 = tv e' → LV' 7 = .int (nI ps.1) → LV' 6 = .int 0 → (∀ k, k < 6 → LV' k = LV k) → CTm false tv tk f j0 B (K LV' (stM ps' f j')) (pb (pEt tk lv ty pat E e3 e4 ps.1 M' e') F ps')) →
        CTm false tv tk f j0 B (ab (aM n 22 [.int 0] (stM ps f j)) fun v A => rn (zWh LN (zEtB (aM n)) (zEtS (aM n)) zSkip (va_up (va_up (va_up LV 6 (.int (b2i false))) 7 (.int (nI ps.1))) 8 v) A) K B0 C0) (pb (pb (grE tk inf) fun e => pEt tk lv ty pat E e3 e4 ps.1 LF e) F ps) := by
      intro lv e3 e4 F K B0 C0 hk
      rw [pb_pb]
      refine ctm_bind (B1 := j.nn + 100 * (Tn tk - ps.1) - 40) hj (ctm_gE (hI n ps f j _ (by omega) hP.dn (by omega))) fun e ps1 j1 hp hj1 hB1 => ?_
      have g1 : PG tk ps ps1 := grE_ok hp
      have g11 := g1.1
      have g12 := g1.2.1
      rw [show LN = 99999 + 1 from rfl]
      refine m_tys htg hty (by omega) 99999 LF e ps1 j1 _ K B0 C0 F (by decide) (hP.nx g1 (hj.l hj1) (by omega)) hj1 rfl rfl rfl fun M' e' ps' j' LV' r1 r2 r3 r4 r5 r6 r7 => ?_
      exact hk M' e' ps' j' LV' r1 (by omega) r3 r4 (by omega) r6 ((r7 7 (by decide)).trans rfl) ((r7 6 (by decide)).trans rfl) (fun k hk => by
        rw [r7 k (by omega), va_up_ne _ _ (by omega), va_up_ne _ _ (by omega), va_up_ne _ _ (by omega)])
    match o3, o4, hoo, hb, hb2, l3, l4, h4e, h4n with
    | none, none, hoo, _, _, _, _, _, _ => exact absurd ⟨rfl, rfl⟩ hoo
    | some r, none, hoo, hb, hb2, l3, l4, h4e, h4n =>
      show CTm _ _ _ _ _ _ _ (pb (pE3 tk ty pat E inf) _ ps)
      refine hfe _ _ _ _ _ ?_
      simp only [rn_seq]
      refine hopd _ _ _ _ _ _ _ fun M' e' ps' j' L q1 q2 q3 q4 q5 q6 q7 q8 q9 => ?_
      unfold zE24
      rw [rn_set, h4n e' _ _ ((q9 4 (by decide)).trans l4) q6, ab_ok, ← hb2 rfl]
      have ha' := q3.2.2.2.1
      exact m_and (inf := inf) (ty := ty) (ps := ps') (B := B) (N := N) (b := b) (b2 := b2) (M := M) (M3 := M') (o3 := some r) (e := e') (LV := va_up L 4 (tv e')) (B0 := B0) (C0 := C0) (j := j') hK1 hEq hM (by omega) ih (by omega) q3 q4 (by omega) (by omega) q1 ((va_up_ne _ _ (by decide)).trans ((q9 1 (by decide)).trans l1)) ((va_up_ne _ _ (by decide)).trans ((q9 2 (by decide)).trans l2)) (fun h => by cases h) ((va_up_ne _ _ (by decide)).trans ((q9 3 (by decide)).trans l3)) rfl ((va_up_ne _ _ (by decide)).trans ((q9 5 (by decide)).trans l5)) ((va_up_ne _ _ (by decide)).trans q8) (by omega)
    | o3, some e, hoo, hb, hb2, l3, l4, h4e, h4n =>
      have es : HHp tk ty pat E inf o3 (some e) b b2 M M3 = pb (pE4 tk ty pat E inf) fun y => LoD tk ty pat E inf o3 b b2 M M3 (tChoose e y (tName 1 (nI b2)) (nI b2)) := by cases o3 <;> rfl
      rw [es]
      refine hfe _ _ _ _ _ ?_
      simp only [rn_seq]
      refine hopd _ _ _ _ _ _ _ fun M' e' ps' j' L q1 q2 q3 q4 q5 q6 q7 q8 q9 => ?_
      have ha' := q3.2.2.2.1
      cases M' with
      | zero => exact trivial
      | succ M' =>
        rw [pb_val (v := e') (ps' := ps') (by simp only [pEt, q1, Bool.false_eq_true, if_false, show decide ((4 : Int32) ≤ 3) = false from by decide, show decide ((4 : Int32) ≤ 2) = false from by decide, show decide ((4 : Int32) ≤ 1) = false from by decide, Bool.false_and])]
        unfold zE24
        rw [rn_set, h4e e e' ps' j' L ((q9 2 (by decide)).trans l2) ((q9 4 (by decide)).trans l4) q6 q3 (by omega), ab_ok]
        exact m_and (inf := inf) (ty := ty) (ps := ps') (B := B) (N := N) (b := b) (b2 := b2) (M := M) (M3 := M3) (o3 := o3) (e := tChoose e e' (tName 1 (nI b2)) (nI b2)) (LV := va_up L 4 (tv (tChoose e e' (tName 1 (nI b2)) (nI b2)))) (B0 := B0) (C0 := C0) (j := mkN j' 9) hK1 hEq hM (by omega) ih (by omega) (q3.mkf (W := false) ((jfm.rf j').mk _) (by rw [mkN_nn]; omega)) (q4.mk _) (by rw [mkN_nn]; omega) (by rw [mkN_nn]; omega) q1 ((va_up_ne _ _ (by decide)).trans ((q9 1 (by decide)).trans l1)) ((va_up_ne _ _ (by decide)).trans ((q9 2 (by decide)).trans l2)) hb ((va_up_ne _ _ (by decide)).trans ((q9 3 (by decide)).trans l3)) rfl ((va_up_ne _ _ (by decide)).trans ((q9 5 (by decide)).trans l5)) ((va_up_ne _ _ (by decide)).trans q8) (by omega)
theorem m_hde (htg : PGr tk ty) (hty : CoM false tv tk c 30 35 [] ty) (hEg : PGr tk E) (hE : CoM false tv tk c 30 12 [] E) (hQ : EndQ tk E) (hM : CoM false tLi tk c 40 17 [] (pMch tk pat E)) (hI : CoM false tv tk c 40 22 [.int 0] inf) (hn : max c 6 + 1 ≤ n) (N : Nat) : HdE tk ty pat E inf f j0 B n b N := by
  induction N with
  | zero =>
    intro o3 o4 b2 M M3 ps j LV B0 C0 hN
    omega
  | succ N ih =>
    intro o3 o4 b2 M M3 ps j LV B0 C0 hN hP hj hB l1 l2 hb hb2 l3 l4 l5
    rw [rn_wh, bZn_e (x := true) (by rw [aL_e, l5]; rfl), ab_ok, if_pos rfl]
    exact m_hbody (fun _ _ => rfl) htg hty hEg hE hQ hM hI hn ih hN hP hj hB l1 l2 hb hb2 l3 l4 l5
theorem m_exp (htg : PGr tk ty) (hty : CoM false tv tk c 30 35 [] ty) (hEg : PGr tk E) (hE : CoM false tv tk c 30 12 [] E) (hQ : EndQ tk E) (hM : CoM false tLi tk c 40 17 [] (pMch tk pat E)) (hI : CoM false tv tk c 40 22 [.int 0] inf) : CoM false tv tk (max c 6 + 2) 30 12 [] (pE0 tk ty pat E inf) := by
  intro k ps f j B hk hP hB
  obtain ⟨n, rfl⟩ := suc1 (m := k) (by omega)
  obtain ⟨ht, hT, hps, ha, hop0, hfr, hS⟩ := id hP
  have hA : ALM = 30000 := rfl
  have hEq := endq_mch (pat := pat) hQ
  show CTm _ _ _ _ _ _ _ (pEl tk 0 ty pat E inf (pE3 tk ty pat E inf) (pE4 tk ty pat E inf) ps)
  unfold pEl
  refine ctm_gE ?_
  rw [eM_exp, zM_exp, amth_run, List.length_nil, if_pos rfl, fin_ok, run_seq, run_if, aCall0_b (m_isForm (by omega) ht hT ha)]
  cases hfm : fmB tk ps.1 with
  | true =>
    rw [kI_t, run_ret, aCall_nil, if_pos rfl]
    have hlt := (fm_lt hfm).2
    exact m_form hEg hE hM hfm n f j B (by omega) hP.dn (by omega)
  | false =>
    rw [kI_f, if_neg (by decide), run_skip]
    simp only [run_seq, run_set, aF_e, aK_e, kS_ok, sM_f13]
    generalize hL : va_up (va_up (va_up (va_up (va_up (A0of true []) 1 (.int (nI ps.1))) 2 (.int (nI ps.1))) 3 (.int (-1))) 4 (.int (-1))) 5 (.int 1) = L
    have l1 : L 1 = .int (nI ps.1) := by rw [← hL]; rfl
    have l2 : L 2 = .int (nI ps.1) := by rw [← hL]; rfl
    have l3 : L 3 = ov none := by rw [← hL]; rfl
    have l4 : L 4 = ov none := by rw [← hL]; rfl
    have l5 : L 5 = .int 1 := by rw [← hL]; rfl
    rw [run_rn, show (zWh LN (bZ .ne (aL 5)) (zEB (aM n)) zSkip) = zWh (99999 + 1) (bZ .ne (aL 5)) (zEB (aM n)) zSkip from rfl, rn_wh, bZn_e (x := true) (by rw [aL_e, l5]; rfl), ab_ok, if_pos rfl]
    have h6 : (bAnd (bOr (bZ .ge (aL 3)) (bZ .ge (aL 4))) (bZ .ne (aCall (aM n) 13 []))) L (stM ps f j) = some (some false, stM ps f j) := by
      rw [bAnd_e (bOr_e (bZge_ov l3 _) (bZge_ov l4 _)) (aCall0_b (m_isForm (by omega) ht hT ha))]
      rfl
    rw [rn_seq, rn_set, aIf01 h6, ab_ok, rn_seq, rn_set, aF_e, ab_ok, sM_f13, rn_seq, rn_set, aIf_f (bZn_e (x := false) (by rw [aL_e]; rfl)), aCall_1, aK_e, ab_ok]
    refine ctm_bind (B1 := j.nn + 100 * (Tn tk - ps.1) - 40) (jfm.rf j) (ctm_gE (hI n ps f j _ (by omega) hP.dn (by omega))) fun e ps1 j1 hp hj1 hB1 => ?_
    have g1 : PG tk ps ps1 := grE_ok hp
    have g11 := g1.1
    have g12 := g1.2.1
    rw [rn_seq, show LN = 99999 + 1 from rfl]
    rw [← pb_pret (pEt tk 0 ty pat E (pE3 tk ty pat E inf) (pE4 tk ty pat E inf) ps.1 LF e)]
    refine m_tys htg hty (n := n) (by omega) 99999 LF e ps1 j1 _ _ _ _ _ (by decide) (hP.nx g1 hj1 (by omega)) hj1 rfl rfl rfl fun M' e' ps' j' L' r1 r2 r3 r4 r5 r6 r7 => ?_
    have ha' := r3.2.2.2.1
    rw [pb_pret, rn_seq, rn_set, aIf_t (bZlt_ov (o := none) (((r7 4 (by decide)).trans rfl).trans l4) _), aL_e, r6, ab_ok]
    exact m_and (inf := inf) (ty := ty) (ps := ps') (B := B) (N := 99999) (b := ps.1) (b2 := ps.1) (M := M') (M3 := 0) (o3 := none) (e := e') (LV := va_up L' 4 (tv e')) (j := j') (fun _ _ => rfl) hEq hM (by omega) (m_hde htg hty hEg hE hQ hM hI (by omega) 99999) (by omega) r3 r4 (by omega) (by omega) r1 ((va_up_ne _ _ (by decide)).trans (((r7 1 (by decide)).trans rfl).trans l1)) ((va_up_ne _ _ (by decide)).trans (((r7 2 (by decide)).trans rfl).trans l2)) (fun _ => rfl) ((va_up_ne _ _ (by decide)).trans (((r7 3 (by decide)).trans rfl).trans l3)) rfl ((va_up_ne _ _ (by decide)).trans (((r7 5 (by decide)).trans rfl).trans l5)) ((va_up_ne _ _ (by decide)).trans ((r7 6 (by decide)).trans rfl)) (by omega)
end MEX2
