/-! brackets that are tried, M -/
section BRM
variable {hd : HH} {nds nds' : List ND} {L : LL} {LV : AL} {σ σ' : SS} {A A' A2 : AS}
abbrev PM : List Nat := [17, 18]
def aIsBr (z1 : ZX) (A : AS) : Option (Option V × AS) := match z1 (A0of true []) (hideA PM A) with
  | none => none
  | some ((f, _), LV, A2) => if f = 0 then (match vI (LV 1), vI (LV 2), vI (LV 3), vI (LV 4), vI (LV 5), vI (LV 6), vI (LV 7) with
      | some a, some r, some p, some o, some fr, some de, some is => if intR [0, 1, 2, 4, 5] A2 = true ∧ r = nI (5 * A.nn) ∧ p = nI (A.of 17 + (A.R 17).length) ∧ o = nI (A.of 18 + (A.R 18).length) ∧ fr = A.1 11 ∧ (is = 0 ∨ is = 1) ∧ A.of 17 + (A.R 17).length < 2 ^ 31 ∧ A.of 18 + (A.R 18).length < 2 ^ 31
          then some (some (.int is), bkA PM A A2 (va_up (va_up (va_up (va_up (va_up A2.1 13 a) 11 fr) 14 de) 15 0) 16 (-1))) else none
      | _, _, _, _, _, _, _ => none)
    else none
def tailM : SX := sSeq (sPutF 13 (eL 1)) (sSeq (sPutS 6 (eL 2)) (sSeq (sPutS 17 (eL 3)) (sSeq (sPutS 18 (eL 4)) (sSeq (sPutF 11 (eL 5)) (sSeq (sPutF 14 (eL 6)) (sSeq (sPutF 15 (eK 0)) (sSeq (sPutF 16 (eK (-1))) (sRet (eL 7)))))))))
theorem scM_isn (k : Nat) : (scM.isn k = 0 ↔ k < 3 ∨ k = 4 ∨ k = 5 ∨ k = 17 ∨ k = 18) ∧ (scM.isn k = 1 ↔ k = 6) := by
  show ((if k < 3 then 0 else if k = 3 then 2 else if k < 6 then 0 else if k = 6 then 1 else if k < 17 then 2 else if k < 19 then 0 else 2) = 0 ↔ _) ∧ ((if k < 3 then 0 else if k = 3 then 2 else if k < 6 then 0 else if k = 6 then 1 else if k < 17 then 2 else if k < 19 then 0 else 2) = 1 ↔ _)
  split
  · simp; omega
  · split
    · simp; omega
    · split
      · simp; omega
      · split
        · simp; omega
        · split
          · simp; omega
          · split <;> simp <;> omega
theorem isBr_rel {front : SX} {z1 : ZX} (hz : SR scM front z1) (hS : RS scM hd A σ nds) : OKm scM hd nds (mth true true true 0 (sSeq front tailM) [] σ) (aIsBr z1 A) := by
  have hks : ∀ k ∈ PM, scM.isn k = 0 := by decide
  have hH := hS.hide PM hks
  have h := hz _ (L0of true []) σ (A0of true []) (hideA PM A) nds (fun k => rep_int.mpr (by simp [L0of, A0of] <;> rfl)) hH
  unfold aIsBr
  generalize z1 (A0of true []) (hideA PM A) = q at h ⊢
  match q, h with
  | none, _ => exact trivial
  | some ((f, v), LV, A2), h =>
    obtain ⟨⟨f', x⟩, L2, σ2, n2, e, h1, h2, h3, h4, h5⟩ := h
    have h1 : f' = f := h1
    subst h1
    dsimp only
    have hm : mth true true true 0 (sSeq front tailM) [] σ = match (if f' = 0 then tailM L2 σ2 else some ((f', x), L2, σ2)) with
      | some ((1, v), _, σ') => if true && !(decide (v = 0) || decide (v = 1)) then none else some (some v, σ')
      | some ((2, _), _, σ') => some (none, σ')
      | _ => none := by
      unfold mth
      rw [if_pos (show ([] : List Int32).length = 0 from rfl)]
      unfold sSeq
      rw [e]
      rfl
    rw [hm]
    match f' with
    | 0 =>
      rw [if_pos (show (0 : Nat) = 0 from rfl), if_pos (show (0 : Nat) = 0 from rfl)]
      cases e1 : vI (LV 1) with
      | none => exact trivial
      | some a =>
      cases e2 : vI (LV 2) with
      | none => exact trivial
      | some r =>
      cases e3 : vI (LV 3) with
      | none => exact trivial
      | some p =>
      cases e4 : vI (LV 4) with
      | none => exact trivial
      | some o =>
      cases e5 : vI (LV 5) with
      | none => exact trivial
      | some fr =>
      cases e6 : vI (LV 6) with
      | none => exact trivial
      | some de =>
      cases e7 : vI (LV 7) with
      | none => exact trivial
      | some is =>
        dsimp only
        by_cases hc : intR [0, 1, 2, 4, 5] A2 = true ∧ r = nI (5 * A.nn) ∧ p = nI (A.of 17 + (A.R 17).length) ∧ o = nI (A.of 18 + (A.R 18).length) ∧ fr = A.1 11 ∧ (is = 0 ∨ is = 1) ∧ A.of 17 + (A.R 17).length < 2 ^ 31 ∧ A.of 18 + (A.R 18).length < 2 ^ 31
        · rw [if_pos hc]
          obtain ⟨c1, c2, c3, c4, c5, c6, c7, c8⟩ := hc
          have b1 := vI_rep (h3 1) e1
          have b2 := vI_rep (h3 2) e2
          have b3 := vI_rep (h3 3) e3
          have b4 := vI_rep (h3 4) e4
          have b5 := vI_rep (h3 5) e5
          have b6 := vI_rep (h3 6) e6
          have b7 := vI_rep (h3 7) e7
          obtain ⟨t, ht⟩ := h5
          have hA : ALM = 30000 := rfl
          have hle := hS.2.2.2.2.1
          have hnn := hS.2.2.2.1
          have r6 : σ2.2.1 6 = n2.flatMap f5 := h4.2.2.1 6 rfl
          have l17 := RR.len (hS.2.1 17 rfl)
          have l18 := RR.len (hS.2.1 18 rfl)
          obtain ⟨_, m17, g17, _⟩ := h4.2.1 17 rfl
          obtain ⟨_, m18, g18, _⟩ := h4.2.1 18 rfl
          have g17 : σ2.2.1 17 = σ.2.1 17 ++ m17 := g17
          have g18 : σ2.2.1 18 = σ.2.1 18 ++ m18 := g18
          have f6 : 5 * nds.length ≤ (σ2.2.1 6).length := by rw [r6, flat5_len, ← ht, List.length_append]; omega
          have s1 := rowSize_le (σ := putF σ2 13 a) (k := 6) (n := 5 * nds.length) (by omega) f6
          have s2 := rowSize_le (σ := putR (putF σ2 13 a) 6 ((σ2.2.1 6).take (5 * nds.length))) (k := 17) (n := (σ.2.1 17).length) (by omega) (by show _ ≤ (σ2.2.1 17).length; rw [g17, List.length_append]; omega)
          have s3 := rowSize_le (σ := putR (putR (putF σ2 13 a) 6 ((σ2.2.1 6).take (5 * nds.length))) 17 ((σ2.2.1 17).take (σ.2.1 17).length)) (k := 18) (n := (σ.2.1 18).length) (by omega) (by show _ ≤ (σ2.2.1 18).length; rw [g18, List.length_append]; omega)
          have q1 : (putF σ2 13 a).2.1 6 = σ2.2.1 6 := rfl
          have q2 : ∀ s, (putR (putF σ2 13 a) 6 s).2.1 17 = σ2.2.1 17 := fun _ => rfl
          have q3 : ∀ s s', (putR (putR (putF σ2 13 a) 6 s) 17 s').2.1 18 = σ2.2.1 18 := fun _ _ => rfl
          rw [q1] at s1
          rw [q2] at s2
          rw [q3] at s3
          have er : r = nI (5 * nds.length) := by rw [c2, hnn]
          have ep : p = nI (σ.2.1 17).length := by rw [c3, l17]
          have eo : o = nI (σ.2.1 18).length := by rw [c4, l18]
          rw [← er] at s1
          rw [← ep] at s2
          rw [← eo] at s3
          have k17 : (σ2.2.1 17).take (σ.2.1 17).length = σ.2.1 17 := by rw [g17]; simp
          have k18 : (σ2.2.1 18).take (σ.2.1 18).length = σ.2.1 18 := by rw [g18]; simp
          have k6 : (σ2.2.1 6).take (5 * nds.length) = nds.flatMap f5 := by
            rw [r6, ← ht, List.flatMap_append, List.take_append_of_le_length (by rw [flat5_len]; exact Nat.le_refl _), List.take_of_length_le (by rw [flat5_len]; exact Nat.le_refl _)]
          rw [k17] at s2 s3
          rw [k18] at s3
          rw [k6] at s1 s2 s3
          have hb : (decide (is = 0) || decide (is = 1)) = true := by
            rcases c6 with q | q <;> subst q <;> rfl
          refine ⟨is, putF (putF (putF (putF (putR (putR (putR (putF σ2 13 a) 6 (nds.flatMap f5)) 17 (σ.2.1 17)) 18 (σ.2.1 18)) 11 fr) 14 de) 15 0) 16 (-1), nds, ?_, rep_int.mpr rfl, ?_, List.prefix_refl _⟩
          · unfold tailM
            simp only [sSeq, sPutF, sPutS, sRet, sbnd, sgo, eL, eK, b1, b2, b3, b4, b5, b6, b7, s1, s2, s3, if_true, hb, Bool.not_true, Bool.and_false, Bool.false_eq_true, if_false]
          · refine RS.back PM [0, 1, 2, 4, 5] hS h4 (fun k hk => ?_) c1 (fun k => ?_) (fun k hk q => ?_) (fun k hk q => ?_) (fun k hk => ?_) ?_ (fun k => ?_) rfl
            · have := (scM_isn k).1.mp hk
              simp only [List.mem_cons, List.not_mem_nil, or_false]
              omega
            · show va_up (va_up (va_up (va_up (va_up σ2.1 13 a) 11 fr) 14 de) 15 0) 16 (-1) k = _
              unfold va_up
              rw [h4.1 k]
            · have : k = 17 ∨ k = 18 := by simpa using q
              rcases this with rfl | rfl <;> rfl
            · have := (scM_isn k).1.mp hk
              have h17 : k ≠ 17 := fun e => q (by subst e; decide)
              have h18 : k ≠ 18 := fun e => q (by subst e; decide)
              show va_up (va_up (va_up σ2.2.1 6 _) 17 _) 18 _ k = _
              rw [va_up_ne _ _ h18, va_up_ne _ _ h17, va_up_ne _ _ (by omega)]
            · have := (scM_isn k).2.mp hk
              subst this
              rfl
            · exact c5
            · show (va_up (va_up (va_up σ2.2.1 6 (nds.flatMap f5)) 17 (σ.2.1 17)) 18 (σ.2.1 18) k).length ≤ _
              by_cases e1 : k = 18
              · subst e1; rw [va_up_self, g18, List.length_append]; omega
              · rw [va_up_ne _ _ e1]
                by_cases e2 : k = 17
                · subst e2; rw [va_up_self, g17, List.length_append]; omega
                · rw [va_up_ne _ _ e2]
                  by_cases e3 : k = 6
                  · subst e3; rw [va_up_self, flat5_len]; exact f6
                  · rw [va_up_ne _ _ e3]; exact Nat.le_refl _
        · rw [if_neg hc]; exact trivial
    | n + 1 =>
      rw [if_neg (by omega : ¬ n + 1 = 0), if_neg (by omega : ¬ n + 1 = 0)]
      exact trivial
end BRM
