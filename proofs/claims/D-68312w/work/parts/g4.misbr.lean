/-! M: brackets that are tried -/
/-- a fault, or nothing -/
def FN {α : Type} (e : FT) (r : PR α) : Prop := r = some (.inr e) ∨ r = none
section FNS
variable {α β : Type} {tk : TK} {ps ps' : PS} {e : FT}
theorem fn_pb {p : PA α} {F : α → PA β} (h : FN e (p ps)) : FN e (pb p F ps) := by
  unfold pb
  rcases h with h | h
  · rw [h]; exact Or.inl rfl
  · rw [h]; exact Or.inr rfl
theorem pb_err {p : PA α} {F : α → PA β} (h : p ps = some (.inr e)) : pb p F ps = some (.inr e) := by
  unfold pb
  rw [h]
theorem fn_gT {p : PA α} (h : FN e (p ps)) : FN e (grT tk p ps) := by
  unfold grT
  rcases h with h | h
  · rw [h]
    dsimp only
    split
    · exact Or.inl rfl
    · exact Or.inr rfl
  · rw [h]; exact Or.inr rfl
theorem fn_pb2 {p : PA α} {F : α → PA β} {v : α} (h : p ps = some (.inl (v, ps')) ∨ p ps = none) (hF : FN e (F v ps')) : FN e (pb p F ps) := by
  unfold pb
  rcases h with h | h
  · rw [h]; exact hF
  · rw [h]; exact Or.inr rfl
theorem grT_or {p : PA α} {v : α} (h : p ps = some (.inl (v, ps')) ∨ p ps = none) : grT tk p ps = some (.inl (v, ps')) ∨ grT tk p ps = none := by
  unfold grT
  rcases h with h | h
  · rw [h]
    dsimp only
    split
    · exact Or.inl rfl
    · exact Or.inr rfl
  · rw [h]; exact Or.inr rfl
theorem pb_or {p : PA α} {F : α → PA β} {v : α} {w : β} {ps2 : PS} (h : p ps = some (.inl (v, ps')) ∨ p ps = none) (hF : F v ps' = some (.inl (w, ps2)) ∨ F v ps' = none) : pb p F ps = some (.inl (w, ps2)) ∨ pb p F ps = none := by
  unfold pb
  rcases h with h | h
  · rw [h]; exact hF
  · rw [h]; exact Or.inr rfl
theorem begP_34 (h : sg tk ps.1 34 = true) : begP tk ps = false := by
  unfold sg at h
  simp only [Bool.and_eq_true, decide_eq_true_eq] at h
  obtain ⟨h1, h2⟩ := h
  simp [begP, nmB, cstB, sg, h1, h2]
theorem begP_opr (h : oprB tk ps.2.2.2.1 ps.1 = true) : begP tk ps = false := by
  have hn : nmB tk ps.1 = true := by
    unfold oprB at h
    rw [Bool.and_eq_true] at h
    exact h.1
  have hk : kAt tk ps.1 = 2 ∨ kAt tk ps.1 = 3 := by simpa [nmB] using hn
  rcases hk with hk | hk <;> simp [begP, h, cstB, sg, hk]
theorem apat_no {ty pat : PA TR} (h : begP tk ps = false) : pApat tk ty pat ps = pflt 1 ps := by
  simp only [begP, Bool.or_eq_false_iff] at h
  obtain ⟨⟨⟨⟨⟨⟨⟨h1, h2⟩, h3⟩, h4⟩, h5⟩, h6⟩, h7⟩, h8⟩ := h
  have hid : idB tk ps = false := by
    unfold idB
    rw [h1, h2, h4]
    rfl
  have key : (if cstB tk ps.1 = true then some (.inl (((31, .int (vAt tk ps.1), no, no, nI ps.1) : TR), ((ps.1 + 1, ps.2) : PS)))
    else if (!decide (kAt tk ps.1 = 1) || sg tk ps.1 22) = true then pIdent tk 32 true ps
    else if vAt tk ps.1 = 43 then some (.inl (tWild (nI ps.1), (ps.1 + 1, ps.2)))
    else if vAt tk ps.1 = 37 then pRecP tk ty pat ps
    else if vAt tk ps.1 = 33 then pBrk tk true pat ps
    else if vAt tk ps.1 = 35 then pElms tk true pat ps
    else pflt 1 ps) = pflt 1 ps := by
    rw [h3, if_neg (by decide)]
    cases hc : (!decide (kAt tk ps.1 = 1) || sg tk ps.1 22) with
    | true => rw [if_pos rfl]; exact pIdent_no hid
    | false =>
      rw [Bool.or_eq_false_iff] at hc
      have hk : kAt tk ps.1 = 1 := by simpa using hc.1
      have ne : ∀ s, sg tk ps.1 s = false → ¬ vAt tk ps.1 = s := fun s hs hv => by simp [sg, hk, hv] at hs
      rw [if_neg (by decide), if_neg (ne 43 h5), if_neg (ne 37 h6), if_neg (ne 33 h7), if_neg (ne 35 h8)]
  unfold pApat grT
  dsimp only
  rw [key]
  simp [pflt]
/-- where the attempt fails the pattern fails -/
theorem try_flt {n : Nat} (h33 : sg tk ps.1 33 = true) (h : pTry tk (pApat tk (pTy 40 tk) (pPt n tk)) ps = some (.inr e)) : FN e (pApat tk (pTy 40 tk) (pPt (n + 1) tk) ps) := by
  have hk : kAt tk ps.1 = 1 ∧ vAt tk ps.1 = 33 := by simpa [sg] using h33
  unfold pApat
  refine fn_gT ?_
  have ec : cstB tk ps.1 = false := by simp [cstB, hk.1]
  have e22 : sg tk ps.1 22 = false := by simp [sg, hk.2]
  rw [ec, if_neg (by decide), hk.1, e22, if_neg (by decide), hk.2, if_neg (by decide), if_neg (by decide), if_pos rfl]
  unfold pBrk
  unfold pTry at h
  unfold pEnter at h ⊢
  by_cases ho : ps.2.1 < 32
  · rw [if_pos ho] at h ⊢
    unfold pAdv at h ⊢
    by_cases hl : (ps.1, ps.2.1 + 1, ps.2.2).1 < Tn tk
    · rw [if_pos hl] at h ⊢
      generalize hq : (((ps.1, ps.2.1 + 1, ps.2.2).1 + 1, (ps.1, ps.2.1 + 1, ps.2.2).2) : PS) = q at h ⊢
      dsimp only at h ⊢
      cases hb : begP tk q with
      | false => rw [hb] at h; cases h
      | true =>
        rw [hb, if_pos rfl] at h
        cases h34 : sg tk q.1 34 with
        | true => rw [begP_34 h34] at hb; cases hb
        | false =>
          rw [if_neg (by decide)]
          refine fn_pb ?_
          show FN e (pPat tk (pTy 40 tk) (pPt n tk) q)
          unfold pPat
          refine fn_gT (fn_pb (fn_gT ?_))
          unfold pInf
          cases ha : pApat tk (pTy 40 tk) (pPt n tk) q with
          | none => exact fn_pb (fn_gT (fn_pb (Or.inr ha)))
          | some r =>
            match r, ha with
            | .inr e', ha =>
              have : e' = e := by
                unfold pb at h
                rw [ha] at h
                cases h
                rfl
              subst this
              exact fn_pb (fn_gT (fn_pb (Or.inl ha)))
            | .inl (one, q2), ha =>
              rw [pb_val ha] at h
              cases hop : oprB tk q2.2.2.2.1 q2.1 with
              | false => rw [hop] at h; cases h
              | true =>
                rw [hop, if_pos rfl] at h
                cases hb3 : begP tk (q2.1 + 1, q2.2) with
                | false => rw [hb3] at h; cases h
                | true =>
                  rw [hb3, if_pos rfl] at h
                  have ha3 : FN e (pApat tk (pTy 40 tk) (pPt n tk) (q2.1 + 1, q2.2)) := by
                    cases ha3 : pApat tk (pTy 40 tk) (pPt n tk) (q2.1 + 1, q2.2) with
                    | none => exact Or.inr rfl
                    | some r3 =>
                      match r3, ha3 with
                      | .inr e', ha3 =>
                        unfold pb at h
                        rw [ha3] at h
                        cases h
                        exact Or.inl rfl
                      | .inl (two, q4), ha3 =>
                        rw [pb_val ha3] at h
                        split at h <;> cases h
                  have hap1 : pAppl tk (pTy 40 tk) (pPt n tk) q = some (.inl (one, q2)) ∨ pAppl tk (pTy 40 tk) (pPt n tk) q = none := by
                    unfold pAppl
                    refine grT_or (pb_or (Or.inl ha) (Or.inl ?_))
                    rw [begP_opr hop, Bool.and_false, if_neg (by decide)]
                  refine fn_pb2 hap1 ?_
                  suffices hgen : ∀ M, FN e (pOps tk true (pAppl tk (pTy 40 tk) (pPt n tk)) (M + 1) [] [(one, q.1)] q2) from hgen 3000
                  intro M
                  have hob : opB tk true q2 = true := by
                    unfold opB
                    rw [hop]
                    rfl
                  simp only [pOps, hob, if_true, reds, Option.elim]
                  refine fn_pb ?_
                  unfold pAppl
                  exact fn_gT (fn_pb ha3)
    · rw [if_neg hl] at h
      cases h
  · rw [if_neg ho] at h ⊢
    cases h
    exact Or.inl rfl
end FNS
/-- running, with what is done behind a fault -/
def rvt (r : Option ((Nat × V) × AL × AS)) (K H : KT) : Option (Option V × AS) := match r with
  | none => none
  | some (f, L, A) => if f.1 = 0 then K L A else if f.1 = 2 then H L A else none
def abh {α : Type} (L : AL) (r : Option (Option α × AS)) (K : α → AS → Option (Option V × AS)) (H : KT) : Option (Option V × AS) := match r with
  | none => none
  | some (none, A) => H L A
  | some (some v, A) => K v A
section RVT
variable {L : AL} {A : AS} {K H : KT}
theorem rvt_zb {α : Type} (r : Option (Option α × AS)) (L : AL) (f : α → AS → Option ((Nat × V) × AL × AS)) : rvt (zb r L f) K H = abh L r (fun v A => rvt (f v A) K H) H := by
  match r with
  | none => rfl
  | some (none, A) => rfl
  | some (some v, A) => rfl
theorem rvt_skip : rvt (zSkip L A) K H = K L A := rfl
theorem rvt_seq (a b : ZX) : rvt (zSeq a b L A) K H = rvt (a L A) (fun L A => rvt (b L A) K H) H := by
  unfold zSeq
  cases a L A with
  | none => rfl
  | some q =>
    obtain ⟨f, L', A'⟩ := q
    dsimp only
    by_cases h : f.1 = 0
    · rw [if_pos h]
      simp only [rvt, if_pos h]
    · rw [if_neg h]
      simp only [rvt, if_neg h]
theorem rvt_try (a b : ZX) : rvt (zTry a b L A) K H = rvt (a L A) K (fun L A => rvt (b L A) K H) := by
  unfold zTry
  cases a L A with
  | none => rfl
  | some q =>
    obtain ⟨f, L', A'⟩ := q
    dsimp only
    by_cases h : f.1 = 2
    · rw [if_pos h]
      simp only [rvt, h]
      rfl
    · rw [if_neg h]
      simp only [rvt, if_neg h]
theorem rvt_set (k : Nat) (a : AX) : rvt (zSet k a L A) K H = abh L (a L A) (fun v A => K (va_up L k v) A) H := by
  unfold zSet
  rw [rvt_zb]
  rfl
theorem rvt_ex (a : AX) : rvt (zEx a L A) K H = abh L (a L A) (fun _ A => K L A) H := by
  unfold zEx
  rw [rvt_zb]
  rfl
theorem rvt_if (c : BX) (a b : ZX) : rvt (zIf c a b L A) K H = abh L (c L A) (fun q A => if q = true then rvt (a L A) K H else rvt (b L A) K H) H := by
  unfold zIf
  rw [rvt_zb]
  congr 1
  funext q A
  split <;> rfl
theorem rvt_opF (op : Int32 → Int32 → Int32) (k : Nat) (i : Int32) : rvt (zOpF op k (aK i) L A) K H = K L (apF A k (op (A.1 k) i)) := rfl
theorem abh_ok {α : Type} {v : α} {F : α → AS → Option (Option V × AS)} : abh L (some (some v, A)) F H = F v A := rfl
theorem abh_no {α : Type} {F : α → AS → Option (Option V × AS)} : abh L (some ((none : Option α), A)) F H = H L A := rfl
end RVT
def kBm (A : AS) : KT := fun LV A2 => match vI (LV 1), vI (LV 2), vI (LV 3), vI (LV 4), vI (LV 5), vI (LV 6), vI (LV 7) with
  | some a, some r, some p, some o, some fr, some de, some is => if intR [0, 1, 2, 4, 5] A2 = true ∧ r = nI (5 * A.nn) ∧ p = nI (A.of 17 + (A.R 17).length) ∧ o = nI (A.of 18 + (A.R 18).length) ∧ fr = A.1 11 ∧ (is = 0 ∨ is = 1) ∧ A.of 17 + (A.R 17).length < 2 ^ 31 ∧ A.of 18 + (A.R 18).length < 2 ^ 31
          then some (some (.int is), bkA PM A A2 (va_up (va_up (va_up (va_up (va_up A2.1 13 a) 11 fr) 14 de) 15 0) 16 (-1))) else none
  | _, _, _, _, _, _, _ => none
theorem aIsBr_eq (z1 : ZX) (A : AS) : aIsBr z1 A = rvt (z1 (A0of true []) (hideA PM A)) (kBm A) (fun _ _ => none) := by
  unfold aIsBr
  cases z1 (A0of true []) (hideA PM A) with
  | none => rfl
  | some q =>
    obtain ⟨⟨f, v⟩, LV, A2⟩ := q
    match f with
    | 0 => rfl
    | 1 => rfl
    | 2 => rfl
    | n + 3 =>
      unfold rvt
      dsimp only
      rw [if_neg (by omega), if_neg (by omega), if_neg (by omega)]
def hidM (f : FM) : FM := ((f.1.1 + f.1.2.length, []), (f.2.1 + f.2.2.length, []))
theorem fSm_hid (f : FM) : fSm (hidM f) = fSm f := by simp [fSm, hidM]; omega
section MIB
variable {W : Bool} {tk : TK} {ps ps' : PS} {f : FM} {j j1 j' : AS} {m n c : Nat} {A : AS} {L : AL}
theorem hide_stM : hideA PM (stM ps f j) = stM ps (hidM f) j := by
  unfold hideA stM hidM
  refine Prod.ext rfl (Prod.ext (funext fun k => ?_) (Prod.ext (funext fun k => ?_) rfl))
  · show (if k ∈ [17, 18] then [] else (if k = 4 then _ else if k = 5 then _ else if k = 17 then _ else if k = 18 then _ else _)) = _
    by_cases h17 : k = 17
    · subst h17; rfl
    · by_cases h18 : k = 18
      · subst h18; rfl
      · rw [if_neg (by simp [h17, h18])]
        simp only [h17, h18, if_false]
  · show (if k ∈ [17, 18] then (if k = 17 then _ else if k = 18 then _ else if k < 17 then 0 else _) + (if k = 4 then _ else if k = 5 then _ else if k = 17 then f.1.2 else if k = 18 then f.2.2 else _ : List V).length else (if k = 17 then _ else if k = 18 then _ else if k < 17 then 0 else _)) = _
    by_cases h17 : k = 17
    · subst h17; rfl
    · by_cases h18 : k = 18
      · subst h18; rfl
      · rw [if_neg (by simp [h17, h18])]
        simp only [h17, h18, if_false]
/-- what was read goes away -/
theorem m_brk {is : Int32} {A2 : AS} (hT : TKM tk j) (hS : fSm f ≤ 29000) (his : is = 0 ∨ is = 1) (l1 : L 1 = .int (nI ps.1)) (l2 : L 2 = .int (nI (5 * j.nn))) (l3 : L 3 = .int (nI (f.1.1 + f.1.2.length))) (l4 : L 4 = .int (nI (f.2.1 + f.2.2.length))) (l5 : L 5 = .int (nI ps.2.2.1)) (l6 : L 6 = .int (nI ps.2.1)) (l7 : L 7 = .int is)
    (h1 : ∀ k, k ≠ 11 → k ≠ 13 → k ≠ 14 → k ≠ 15 → k ≠ 16 → k ≠ 19 → (k = 20 ∨ k = 21 → W = true) → A2.1 k = j.1 k) (hfl : A2.fl = j.fl) (r0 : A2.R 0 = j.R 0) (r1 : A2.R 1 = j.R 1) (r2 : A2.R 2 = j.R 2) (r4 : A2.R 4 = ints (fxm ps.2.2.2.1)) (r5 : A2.R 5 = ints (chm ps.2.2.2.2.1 ps.2.2.2.2.2)) (hof : ∀ k, k < 17 → A2.of k = 0) :
    ∃ j', kBm (stM ps f j) L A2 = some (some (.int is), stM ps f j') ∧ jfm W j j' ∧ j'.nn = j.nn := by
  refine ⟨(fun k => if k = 19 ∨ k = 20 ∨ k = 21 then A2.1 k else j.1 k, A2.2.1, A2.2.2.1, j.nn, A2.fl), ?_, ?_, rfl⟩
  · unfold kBm
    rw [l1, l2, l3, l4, l5, l6, l7]
    simp only [vI_i]
    have hi : intR [0, 1, 2, 4, 5] A2 = true := by
      simp only [intR, List.all_cons, List.all_nil, r0, r1, r2, r4, r5, hT.2.2.1, hT.2.2.2.1, hT.2.2.2.2.1, ints_isI]
      rfl
    simp only [fSm] at hS
    have hcond : intR [0, 1, 2, 4, 5] A2 = true ∧ nI (5 * j.nn) = nI (5 * (stM ps f j).nn) ∧ nI (f.1.1 + f.1.2.length) = nI ((stM ps f j).of 17 + ((stM ps f j).R 17).length) ∧ nI (f.2.1 + f.2.2.length) = nI ((stM ps f j).of 18 + ((stM ps f j).R 18).length) ∧ nI ps.2.2.1 = (stM ps f j).1 11 ∧ (is = 0 ∨ is = 1) ∧ (stM ps f j).of 17 + ((stM ps f j).R 17).length < 2 ^ 31 ∧ (stM ps f j).of 18 + ((stM ps f j).R 18).length < 2 ^ 31 := by
      refine ⟨hi, rfl, rfl, rfl, rfl, his, ?_, ?_⟩
      · show f.1.1 + f.1.2.length < 2 ^ 31
        omega
      · show f.2.1 + f.2.2.length < 2 ^ 31
        omega
    rw [if_pos hcond]
    congr 2
    unfold bkA stM
    refine Prod.ext (funext fun k => ?_) (Prod.ext (funext fun k => ?_) (Prod.ext (funext fun k => ?_) rfl))
    · show va_up (va_up (va_up (va_up (va_up A2.1 13 (nI ps.1)) 11 (nI ps.2.2.1)) 14 (nI ps.2.1)) 15 0) 16 (-1) k = if k = 13 then nI ps.1 else if k = 14 then nI ps.2.1 else if k = 11 then nI ps.2.2.1 else if k = 19 ∨ k = 20 ∨ k = 21 then A2.1 k else j.1 k
      unfold va_up
      by_cases k16 : k = 16
      · subst k16
        simp [hT.2.2.2.2.2.2]
      · by_cases k15 : k = 15
        · subst k15
          simp [hT.2.2.2.2.2.1]
        · by_cases k14 : k = 14
          · subst k14; simp
          · by_cases k11 : k = 11
            · subst k11; simp
            · by_cases k13 : k = 13
              · subst k13; simp
              · simp only [k16, k15, k14, k11, k13, if_false]
                by_cases k3 : k = 19 ∨ k = 20 ∨ k = 21
                · simp only [k3, if_true]
                · simp only [k3, if_false]
                  exact h1 k k11 k13 k14 k15 k16 (fun e => k3 (Or.inl e)) (fun e => absurd (Or.inr e) k3)
    · show (if k ∈ [17, 18] then (if k = 4 then _ else if k = 5 then _ else if k = 17 then f.1.2 else if k = 18 then f.2.2 else j.R k) else A2.R k) = if k = 4 then ints (fxm ps.2.2.2.1) else if k = 5 then ints (chm ps.2.2.2.2.1 ps.2.2.2.2.2) else if k = 17 then f.1.2 else if k = 18 then f.2.2 else A2.R k
      by_cases k17 : k = 17
      · subst k17; rfl
      · by_cases k18 : k = 18
        · subst k18; rfl
        · rw [if_neg (by simp [k17, k18])]
          simp only [k17, k18, if_false]
          by_cases k4 : k = 4
          · subst k4; rw [if_pos rfl]; exact r4
          · by_cases k5 : k = 5
            · subst k5; rw [if_neg k4, if_pos rfl]; exact r5
            · rw [if_neg k4, if_neg k5]
    · show (if k ∈ [17, 18] then (if k = 17 then f.1.1 else if k = 18 then f.2.1 else if k < 17 then 0 else j.of k) else A2.of k) = if k = 17 then f.1.1 else if k = 18 then f.2.1 else if k < 17 then 0 else A2.of k
      by_cases k17 : k = 17
      · subst k17; rfl
      · by_cases k18 : k = 18
        · subst k18; rfl
        · rw [if_neg (by simp [k17, k18])]
          simp only [k17, k18, if_false]
          by_cases kl : k < 17
          · rw [if_pos kl]; exact hof k kl
          · rw [if_neg kl]
  · refine ⟨hfl, fun k hk hw => ?_, r0, r1, r2⟩
    show (if k = 19 ∨ k = 20 ∨ k = 21 then A2.1 k else j.1 k) = j.1 k
    split
    · next h =>
      rcases h with h | h | h
      · exact absurd h hk
      · exact h1 k (by omega) (by omega) (by omega) (by omega) (by omega) hk hw
      · exact h1 k (by omega) (by omega) (by omega) (by omega) (by omega) hk hw
    · rfl
theorem opr_lt {fx : List Int32} {i : Nat} (h : oprB tk fx i = true) : i < Tn tk := by
  unfold oprB at h
  rw [Bool.and_eq_true] at h
  have hk : kAt tk i = 2 ∨ kAt tk i = 3 := by simpa [nmB] using h.1
  refine k_lt ?_
  rcases hk with hk | hk <;> rw [hk] <;> decide
/-- what isBracketed says -/
def brR (r : PR (Option (Int32 × TR))) : Int32 := match r with
  | some (.inl (o, _)) => b2i o.isSome
  | _ => 0
theorem m_isBr {ap : PA TR} (hap : CoM W tv tk c 60 25 [] ap) (hq : PGt tk ap) (hff : ∀ ps e, ap ps = some (.inr e) → e.2.2 = ps.2.2.2) (hno : ∀ ps, begP tk ps = false → ap ps = pflt 1 ps) (hn : max c 5 ≤ n) (hP : PRM tk ps f j (n + 1)) (hlt : ps.1 < Tn tk) :
    pTry tk ap ps = none ∨ ∃ j', aM (n + 1) 75 [] (stM ps f j) = some (some (.int (brR (pTry tk ap ps))), stM ps f j') ∧ jfm W j j' ∧ j'.nn = j.nn := by
  obtain ⟨ht, hT, hps, ha, hop0, hfr, hS⟩ := id hP
  rw [eM_isBracketed, aIsBr_eq, hide_stM]
  unfold zM_br
  simp only [rvt_seq, rvt_set, aF_e, aK_e, aSz_e, abh_ok, sM_f13, sM_f11, sM_f14, sM_R17, sM_o17, sM_R18, sM_o18]
  have e5 : ∀ L : AL, aN5 L (stM ps (hidM f) j) = some (some (.int (nI (5 * j.nn))), stM ps (hidM f) j) := fun _ => rfl
  rw [e5, abh_ok]
  have hz1 : (stM ps (hidM f) j).of 17 + ((stM ps (hidM f) j).R 17).length = f.1.1 + f.1.2.length := rfl
  have hz2 : (stM ps (hidM f) j).of 18 + ((stM ps (hidM f) j).R 18).length = f.2.1 + f.2.2.length := rfl
  have hz3 : (stM ps (hidM f) j).1 11 = nI ps.2.2.1 := rfl
  have hz4 : (stM ps (hidM f) j).1 14 = nI ps.2.1 := rfl
  rw [hz1, hz2, hz3, hz4]
  generalize hL : va_up (va_up (va_up (va_up (va_up (va_up (va_up (A0of true []) 1 (.int (nI ps.1))) 2 (.int (nI (5 * j.nn)))) 3 (.int (nI (f.1.1 + f.1.2.length)))) 4 (.int (nI (f.2.1 + f.2.2.length)))) 5 (.int (nI ps.2.2.1))) 6 (.int (nI ps.2.1))) 7 (.int 0) = L
  have hlow : ∀ (L' : AL), (∀ k, k < 7 → L' k = L k) → L' 1 = .int (nI ps.1) ∧ L' 2 = .int (nI (5 * j.nn)) ∧ L' 3 = .int (nI (f.1.1 + f.1.2.length)) ∧ L' 4 = .int (nI (f.2.1 + f.2.2.length)) ∧ L' 5 = .int (nI ps.2.2.1) ∧ L' 6 = .int (nI ps.2.1) := by
    intro L' h
    refine ⟨(h 1 (by decide)).trans ?_, (h 2 (by decide)).trans ?_, (h 3 (by decide)).trans ?_, (h 4 (by decide)).trans ?_, (h 5 (by decide)).trans ?_, (h 6 (by decide)).trans ?_⟩ <;> rw [← hL] <;> rfl
  have l7 : L 7 = .int 0 := by rw [← hL]; rfl
  have hS' : fSm f ≤ 29000 := by omega
  -- behind a fault
  have hflt : ∀ (L' : AL) (A' : AS) (e : FT), (∀ k, k < 7 → L' k = L k) → THM W j e A' → e.2.2 = ps.2.2.2 → ∃ j', rvt (zSet 7 (aK 0) L' A') (kBm (stM ps f j)) (fun _ _ => none) = some (some (.int 0), stM ps f j') ∧ jfm W j j' ∧ j'.nn = j.nn := by
    intro L' A' e h1 h2 h3
    obtain ⟨_, _, t3, t4, t5, t6, t7, t8, t9, t10⟩ := h2
    obtain ⟨m1, m2, m3, m4, m5, m6⟩ := hlow (va_up L' 7 (.int 0)) (fun k hk => (va_up_ne _ _ (by omega)).trans (h1 k hk))
    rw [h3] at t8 t9
    rw [rvt_set, aK_e, abh_ok]
    exact m_brk hT hS' (Or.inl rfl) m1 m2 m3 m4 m5 m6 rfl t3 t4 t5 t6 t7 t8 t9 t10
  -- behind what went well
  have hend : ∀ (L' : AL) (ps2 : PS) (j2 : AS) (is : Int32), (∀ k, k < 7 → L' k = L k) → L' 7 = .int is → is = 0 ∨ is = 1 → jfm W j j2 → ps2.2.2.2 = ps.2.2.2 → ∃ j', kBm (stM ps f j) L' (stM ps2 (hidM f) j2) = some (some (.int is), stM ps f j') ∧ jfm W j j' ∧ j'.nn = j.nn := by
    intro L' ps2 j2 is h1 h7 his hj2 hfx
    obtain ⟨m1, m2, m3, m4, m5, m6⟩ := hlow L' h1
    refine m_brk hT hS' his m1 m2 m3 m4 m5 m6 h7 (fun k k1 k2 k3 k4 k5 k6 hw => ?_) hj2.1 hj2.2.2.1 hj2.2.2.2.1 hj2.2.2.2.2 ?_ ?_ (fun k hk => ?_)
    · show (if k = 13 then _ else if k = 14 then _ else if k = 11 then _ else j2.1 k) = _
      rw [if_neg k2, if_neg k3, if_neg k1]
      exact hj2.2.1 k k6 hw
    · show ints (fxm ps2.2.2.2.1) = _
      rw [hfx]
    · show ints (chm ps2.2.2.2.2.1 ps2.2.2.2.2.2) = _
      rw [hfx]
    · show (if k = 17 then _ else if k = 18 then _ else if k < 17 then 0 else _) = 0
      rw [if_neg (by omega), if_neg (by omega), if_pos hk]
  have hPh : PRM tk ps (hidM f) j (n + 1) := hP.mkf (W := W) (jfm.rf j) (by rw [fSm_hid]; exact hS)
  rw [rvt_try]
  simp only [rvt_seq, rvt_ex, aCall_nil]
  rw [m_enter (by omega) hop0]
  unfold pTry pEnter
  by_cases ho : ps.2.1 < 32
  · rw [if_pos ho, if_pos ho, abh_ok, rvt_opF, sM_f13, show oAdd (nI (ps.1, ps.2.1 + 1, ps.2.2).1) 1 = nI (ps.1 + 1) from nI_1 _, sM_p13]
    have hP1 := hPh.op ho hlt
    have hS1 := hP1.2.2.2.2.2.2
    unfold pAdv
    rw [if_pos (show (ps.1, ps.2.1 + 1, ps.2.2).1 < Tn tk from hlt)]
    generalize hq1 : ((ps.1 + 1, ps.2.1 + 1, ps.2.2) : PS) = q at hP1 hS1
    have hq12 : q.2.2 = ps.2.2 := by rw [← hq1]
    show _ ∨ _
    simp only [show (((ps.1, ps.2.1 + 1, ps.2.2).1 + 1, (ps.1, ps.2.1 + 1, ps.2.2).2.1, (ps.1, ps.2.1 + 1, ps.2.2).2.2) : PS) = q from hq1, show (((ps.1, ps.2.1 + 1, ps.2.2).1 + 1, (ps.1, ps.2.1 + 1, ps.2.2).2) : PS) = q from hq1]
    rw [rvt_set, aCall_nil]
    have hc1 := hap n q (hidM f) j (j.nn + 100 * (Tn tk - q.1)) (by omega) hP1.dn (by omega)
    cases hb : begP tk q with
    | false =>
      rw [hno q hb] at hc1
      obtain ⟨A', e1, q1⟩ := hc1
      rw [e1, abh_no, if_neg (by decide)]
      exact Or.inr (hflt L A' _ (fun _ _ => rfl) q1 (by show q.2.2.2 = _; rw [hq12]))
    | true =>
      rw [if_pos rfl]
      cases h1 : ap q with
      | none => left; unfold pb; rw [h1]
      | some r1 =>
        rw [h1] at hc1
        match r1, h1, hc1 with
        | .inr e, h1, hc1 =>
          obtain ⟨A', e1, q1⟩ := hc1
          rw [e1, abh_no]
          rw [pb_err h1]
          exact Or.inr (hflt L A' e (fun _ _ => rfl) q1 (by rw [hff q e h1, hq12]))
        | .inl (one, q2), h1, hc1 =>
          obtain ⟨j2, e1, hj2, hB2⟩ := hc1
          obtain ⟨g1, g2, g3⟩ := hq q one q2 h1
          have hfx2 : q2.2.2.2 = ps.2.2.2 := by rw [g3, hq12]
          have hP2 : PRM tk q2 (hidM f) j2 (n + 1) := hP1.nx (W := W) ⟨g1, g2, by rw [g3], by rw [g3]; omega, by rw [g3]; exact hP1.2.2.1⟩ hj2 (by omega)
          have hS2 := hP2.2.2.2.2.2.2
          rw [e1, abh_ok, pb_val h1, rvt_if, mO n (by omega) ht hP2.2.1 hP2.2.2.2.1 hP2.2.2.1, abh_ok]
          have k8 : ∀ k, k < 7 → va_up L 8 (tv one) k = L k := fun k hk => va_up_ne _ _ (by omega)
          cases hop : oprB tk q2.2.2.2.1 q2.1 with
          | false =>
            rw [if_neg (by decide), if_neg (by decide), rvt_skip]
            exact Or.inr (hend _ q2 j2 0 k8 l7 (Or.inl rfl) hj2 hfx2)
          | true =>
            have hlt2 : q2.1 < Tn tk := opr_lt hop
            rw [if_pos rfl, if_pos rfl, rvt_seq, rvt_opF, sM_f13, show oAdd (nI q2.1) 1 = nI (q2.1 + 1) from nI_1 _, sM_p13, rvt_seq, rvt_set, aCall_nil]
            have hP3 := hP2.one hlt2
            have hS3 := hP3.2.2.2.2.2.2
            have hc3 := hap n (q2.1 + 1, q2.2) (hidM f) j2 (j2.nn + 100 * (Tn tk - (q2.1 + 1))) (by omega) hP3.dn (by dsimp only; omega)
            cases hb3 : begP tk (q2.1 + 1, q2.2) with
            | false =>
              rw [hno _ hb3] at hc3
              obtain ⟨A', e3, q3⟩ := hc3
              rw [e3, abh_no, if_neg (by decide)]
              exact Or.inr (hflt _ A' _ k8 (q3.l hj2) hfx2)
            | true =>
              rw [if_pos rfl]
              cases h3 : ap (q2.1 + 1, q2.2) with
              | none => left; unfold pb; rw [h3]
              | some r3 =>
                rw [h3] at hc3
                match r3, h3, hc3 with
                | .inr e, h3, hc3 =>
                  obtain ⟨A', e3, q3⟩ := hc3
                  rw [e3, abh_no]
                  rw [pb_err h3]
                  exact Or.inr (hflt _ A' e k8 (q3.l hj2) (by rw [hff _ e h3]; exact hfx2))
                | .inl (two, q4), h3, hc3 =>
                  obtain ⟨j4, e3, hj4, hB4⟩ := hc3
                  obtain ⟨g4, g5, g6⟩ := hq _ two q4 h3
                  dsimp only at g4 g6
                  have hfx4 : q4.2.2.2 = ps.2.2.2 := by rw [g6]; exact hfx2
                  have hP4 : PRM tk q4 (hidM f) j4 (n + 1) := hP3.nx (W := W) ⟨g4, g5, by rw [g6], by rw [g6]; dsimp only; omega, by rw [g6]; exact hP3.2.2.1⟩ hj4 (by omega)
                  rw [e3, abh_ok, pb_val h3, rvt_set]
                  have hjj := hj2.trans hj4
                  have k9 : ∀ v : V, ∀ k, k < 7 → va_up (va_up (va_up L 8 (tv one)) 9 (tv two)) 7 v k = L k := fun v k hk => by rw [va_up_ne _ _ (by omega), va_up_ne _ _ (by omega), va_up_ne _ _ (by omega)]
                  have ec : ∀ L' : AL, (bAnd (bZ .ne (aCall (aM n) 9 [(aK 34)])) (bNot (bZ .ne (aCall (aM n) 21 [])))) L' (stM q4 (hidM f) j4) = some (some (sg tk q4.1 34 && !oprB tk q4.2.2.2.1 (q4.1 + 1)), stM (if sg tk q4.1 34 = true then (q4.1 + 1, q4.2) else q4) (hidM f) j4) := by
                    intro L'
                    unfold bAnd
                    rw [m_eatB (by omega) hP4, ab_ok]
                    cases h34 : sg tk q4.1 34 with
                    | false => rfl
                    | true =>
                      have hl4 : q4.1 < Tn tk := sg_lt h34
                      have hP5 := hP4.one hl4
                      rw [if_pos rfl, if_pos rfl, bNot_e (mO n (by omega) ht hP5.2.1 hP5.2.2.2.1 hP5.2.2.1)]
                      rfl
                  rw [aIf01 (ec _), abh_ok]
                  right
                  have hr : brR (if (sg tk q4.1 34 && !oprB tk q4.2.2.2.1 (q4.1 + 1)) = true then some (.inl (some (vAt tk q2.1, tPair true one two (nI ps.1)), (q4.1 + 1, q4.2.1 - 1, q4.2.2))) else some (.inl (none, ps))) = b2i (sg tk q4.1 34 && !oprB tk q4.2.2.2.1 (q4.1 + 1)) := by
                    split
                    · next h => rw [h]; rfl
                    · next h => rw [Bool.not_eq_true] at h; rw [h]; rfl
                  rw [hr]
                  refine hend _ _ j4 _ (k9 _) rfl (by cases (sg tk q4.1 34 && !oprB tk q4.2.2.2.1 (q4.1 + 1)) <;> simp [b2i]) hjj ?_
                  split
                  · exact hfx4
                  · exact hfx4
  · rw [if_neg ho, if_neg ho, abh_no]
    exact Or.inr (hflt L _ (5, ps.1, ps.2.2.2) (fun _ _ => rfl) (by
      obtain ⟨A', e1, q1⟩ := ctm_flt (W := W) (em := fun x : V => x) (tk := tk) (f := f) (B := 0) (ps := ps) (f1 := hidM f) (k := 5) (jfm.rf j)
      cases e1
      exact q1) rfl)
end MIB
