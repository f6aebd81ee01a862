/-! brackets that are tried: rows are hidden, nodes are cut -/
def hideA (ks : List Nat) (A : AS) : AS := (A.1, fun k => if k ∈ ks then [] else A.R k, fun k => if k ∈ ks then A.of k + (A.R k).length else A.of k, A.nn, A.fl)
def unhA (ks : List Nat) (A A2 : AS) : AS := (A2.1, fun k => if k ∈ ks then A.R k ++ A2.R k else A2.R k, fun k => if k ∈ ks then A.of k else A2.of k, A2.nn, A2.fl)
/-- back to A's rows and nodes, with other fields -/
def bkA (ks : List Nat) (A A2 : AS) (F : Nat → Int32) : AS := (F, fun k => if k ∈ ks then A.R k else A2.R k, fun k => if k ∈ ks then A.of k else A2.of k, A.nn, A2.fl)
def isI (v : V) : Bool := match v with
  | .int _ => true
  | _ => false
def intR (ks : List Nat) (A : AS) : Bool := ks.all fun k => (A.R k).all isI
def emptyR (ks : List Nat) (A : AS) : Bool := ks.all fun k => (A.R k).isEmpty
theorem sSeq_assoc (a b c : SX) : sSeq (sSeq a b) c = sSeq a (sSeq b c) := by
  funext L σ
  unfold sSeq
  cases a L σ with
  | none => rfl
  | some q =>
    obtain ⟨f, L', σ'⟩ := q
    dsimp only
    by_cases h : f.1 = 0
    · simp only [if_pos h]
    · simp only [if_neg h]
section BRK
variable {c : SC} {hd : HH} {nds nds' : List ND} {L : LL} {LV : AL} {σ σ' : SS} {A A' A2 : AS}
theorem RS.hide (ks : List Nat) (hks : ∀ k ∈ ks, c.isn k = 0) (hS : RS c hd A σ nds) : RS c (fun k => if k ∈ ks then σ.2.1 k else hd k) (hideA ks A) σ nds := by
  obtain ⟨g1, g2, g3, g4, g5, g6, g7⟩ := hS
  refine ⟨g1, fun k hk => ?_, g3, g4, g5, g6, g7⟩
  show RR c (if k ∈ ks then σ.2.1 k else hd k) nds (if k ∈ ks then A.of k + (A.R k).length else A.of k) (if k ∈ ks then [] else A.R k) (σ.2.1 k)
  by_cases h : k ∈ ks
  · rw [if_pos h, if_pos h, if_pos h]
    exact ⟨RR.len (g2 k hk), [], by simp, trivial⟩
  · rw [if_neg h, if_neg h, if_neg h]
    exact g2 k hk
theorem RS.unhide (ks : List Nat) (hS : RS c hd A σ nds) (hS2 : RS c (fun k => if k ∈ ks then σ.2.1 k else hd k) A2 σ' nds') (hp : nds <+: nds') : RS c hd (unhA ks A A2) σ' nds' := by
  obtain ⟨g1, g2, g3, g4, g5, g6, g7⟩ := hS2
  refine ⟨g1, fun k hk => ?_, g3, g4, g5, g6, g7⟩
  show RR c (hd k) nds' (if k ∈ ks then A.of k else A2.of k) (if k ∈ ks then A.R k ++ A2.R k else A2.R k) (σ'.2.1 k)
  have h2 := g2 k hk
  by_cases h : k ∈ ks
  · rw [if_pos h, if_pos h]
    simp only [if_pos h] at h2
    obtain ⟨q1, l', e, q2⟩ := h2
    obtain ⟨r1, m', e', r2⟩ := RR.mono (hS.2.1 k hk) hp
    exact ⟨r1, m' ++ l', by rw [e, e', List.append_assoc], r2.app q2⟩
  · rw [if_neg h, if_neg h]
    simp only [if_neg h] at h2
    exact h2
theorem F2.ints {cv : Int32 → Int32} : ∀ {l : List V} {m : List Int32}, l.all isI = true → F2 (rep cv nds) l m → F2 (rep cv nds') l m := by
  intro l
  induction l with
  | nil => intro m _ h; cases m with | nil => trivial | cons b t => exact h.elim
  | cons a l ih =>
    intro m hi h
    cases m with
    | nil => exact h.elim
    | cons b m =>
      simp only [List.all_cons, Bool.and_eq_true] at hi
      refine ⟨?_, ih hi.2 h.2⟩
      have h1 := h.1
      have hi1 := hi.1
      unfold isI at hi1
      split at hi1
      · rw [rep_int] at h1 ⊢; exact h1
      · cases hi1
/-- nodes are cut back to nds -/
theorem RS.back (ks js : List Nat) {F : Nat → Int32} {σ3 : SS} (hS : RS c hd A σ nds) (hS2 : RS c (fun k => if k ∈ ks then σ.2.1 k else hd k) A2 σ' nds') (hjs : ∀ k, c.isn k = 0 → k ∈ ks ∨ k ∈ js) (hi : intR js A2 = true)
    (h1 : ∀ k, σ3.1 k = F k) (h2 : ∀ k, c.isn k = 0 → k ∈ ks → σ3.2.1 k = σ.2.1 k) (h3 : ∀ k, c.isn k = 0 → k ∉ ks → σ3.2.1 k = σ'.2.1 k) (h4 : ∀ k, c.isn k = 1 → σ3.2.1 k = c.nrow k nds) (h5 : F c.frk = A.1 c.frk) (h6 : ∀ k, (σ3.2.1 k).length ≤ (σ'.2.1 k).length) (h7 : σ3.2.2 = σ'.2.2) : RS c hd (bkA ks A A2 F) σ3 nds := by
  obtain ⟨g1, g2, g3, g4, g5, g6, g7, g8⟩ := hS2
  refine ⟨h1, fun k hk => ?_, h4, hS.2.2.2.1, hS.2.2.2.2.1, ?_, fun k hk => ?_, ?_⟩
  · show RR c (hd k) nds (if k ∈ ks then A.of k else A2.of k) (if k ∈ ks then A.R k else A2.R k) (σ3.2.1 k)
    by_cases h : k ∈ ks
    · rw [if_pos h, if_pos h, h2 k hk h]
      exact hS.2.1 k hk
    · rw [if_neg h, if_neg h, h3 k hk h]
      have q := g2 k hk
      simp only [if_neg h] at q
      obtain ⟨q1, l', e, q2⟩ := q
      have hj : k ∈ js := (hjs k hk).resolve_left h
      exact ⟨q1, l', e, q2.ints (List.all_eq_true.mp hi k hj)⟩
  · show NI c nds (F c.frk)
    rw [h5]
    exact hS.2.2.2.2.2.1
  · obtain ⟨q1, q2⟩ := g7 k hk
    rw [h7]
    exact ⟨Nat.le_trans (h6 k) q1, q2⟩
  · rw [h7]
    exact g8
end BRK
section BRX
variable {hd : HH} {nds nds' : List ND} {L : LL} {LV : AL} {σ σ' : SS} {A A' A2 : AS}
abbrev PX : List Nat := [13, 14, 15]
def aInBr (z1 : ZX) (A : AS) : Option (Option V × AS) := match z1 (A0of true []) (hideA PX A) with
  | none => none
  | some ((f, v), LV, A2) => if f = 1 then (if isBv v then some (some v, unhA PX A A2) else none)
    else if f = 2 then some (none, unhA PX A A2)
    else if f = 0 then (match vI (LV 1), vI (LV 2), vI (LV 3) with
      | some b, some m, some fr => if emptyR PX A2 = true ∧ intR [0, 1, 2, 10, 11, 12] A2 = true ∧ m = nI A.nn ∧ fr = A.1 18 then some (some (.int 0), bkA PX A A2 (va_up (va_up (va_up A2.1 3 b) 17 (A2.1 17 - 1)) 18 fr)) else none
      | _, _, _ => none)
    else none
theorem rowSize_le {k n : Nat} (hn : n < 2 ^ 31) (h : n ≤ (σ.2.1 k).length) : rowSize σ k (nI n) = some (putR σ k ((σ.2.1 k).take n)) := by
  unfold rowSize
  rw [nI_clamp hn, if_neg (fun q => q.elim (fun q => nI_pos hn q) (fun q => by omega))]
theorem cutX {rec : RC} {n : Nat} (hn : n < 2 ^ 31) (h : ∀ k, 4 ≤ k → k ≤ 8 → n ≤ (σ.2.1 k).length) : ∃ σ', mth true false false 1 (bX_cut rec) [nI n] σ = some (some 0, σ') ∧ σ'.1 = σ.1 ∧ σ'.2.2 = σ.2.2 ∧ (∀ k, 4 ≤ k → k ≤ 8 → σ'.2.1 k = (σ.2.1 k).take n) ∧ ∀ k, ¬ (4 ≤ k ∧ k ≤ 8) → σ'.2.1 k = σ.2.1 k := by
  have e4 := rowSize_le (σ := σ) (k := 4) hn (h 4 (by decide) (by decide))
  have e5 := rowSize_le (σ := putR σ 4 ((σ.2.1 4).take n)) (k := 5) hn (h 5 (by decide) (by decide))
  have e6 := rowSize_le (σ := putR (putR σ 4 ((σ.2.1 4).take n)) 5 ((σ.2.1 5).take n)) (k := 6) hn (h 6 (by decide) (by decide))
  have e7 := rowSize_le (σ := putR (putR (putR σ 4 ((σ.2.1 4).take n)) 5 ((σ.2.1 5).take n)) 6 ((σ.2.1 6).take n)) (k := 7) hn (h 7 (by decide) (by decide))
  have e8 := rowSize_le (σ := putR (putR (putR (putR σ 4 ((σ.2.1 4).take n)) 5 ((σ.2.1 5).take n)) 6 ((σ.2.1 6).take n)) 7 ((σ.2.1 7).take n)) (k := 8) hn (h 8 (by decide) (by decide))
  refine ⟨putR (putR (putR (putR (putR σ 4 ((σ.2.1 4).take n)) 5 ((σ.2.1 5).take n)) 6 ((σ.2.1 6).take n)) 7 ((σ.2.1 7).take n)) 8 ((σ.2.1 8).take n), ?_, rfl, rfl, fun k h1 h2 => ?_, fun k hk => ?_⟩
  · have q5 : ∀ s, (putR σ 4 s).2.1 5 = σ.2.1 5 := fun s => rfl
    have q6 : ∀ s s2, (putR (putR σ 4 s) 5 s2).2.1 6 = σ.2.1 6 := fun s s2 => rfl
    have q7 : ∀ s s2 s3, (putR (putR (putR σ 4 s) 5 s2) 6 s3).2.1 7 = σ.2.1 7 := fun s s2 s3 => rfl
    have q8 : ∀ s s2 s3 s4, (putR (putR (putR (putR σ 4 s) 5 s2) 6 s3) 7 s4).2.1 8 = σ.2.1 8 := fun s s2 s3 s4 => rfl
    rw [q5] at e5
    rw [q6] at e6
    rw [q7] at e7
    rw [q8] at e8
    simp [mth, bX_cut, sSeq, sPutS, sbnd, sgo, sRet0, eL, L0of, e4, e5, e6, e7, e8]
  · have : k = 4 ∨ k = 5 ∨ k = 6 ∨ k = 7 ∨ k = 8 := by omega
    rcases this with rfl | rfl | rfl | rfl | rfl <;> rfl
  · show va_up (va_up (va_up (va_up (va_up σ.2.1 4 _) 5 _) 6 _) 7 _) 8 _ k = _
    rw [va_up_ne _ _ (by omega), va_up_ne _ _ (by omega), va_up_ne _ _ (by omega), va_up_ne _ _ (by omega), va_up_ne _ _ (by omega)]
def tailX (rec : RC) : SX := sSeq (sPutF 3 (eL 1)) (sSeq (sOpF oSub 17 (eK 1)) (sSeq (sEx (eCall rec 7 [(eL 2)])) (sSeq (sPutF 18 (eL 3)) (sRet (eK 0)))))
theorem scX_isn (k : Nat) : (scX.isn k = 0 ↔ k < 3 ∨ (10 ≤ k ∧ k ≤ 15)) ∧ (scX.isn k = 1 ↔ 4 ≤ k ∧ k ≤ 8) := by
  show ((if k < 3 then 0 else if k = 3 then 2 else if k < 9 then 1 else if k = 9 then 2 else if k < 16 then 0 else 2) = 0 ↔ _) ∧ ((if k < 3 then 0 else if k = 3 then 2 else if k < 9 then 1 else if k = 9 then 2 else if k < 16 then 0 else 2) = 1 ↔ _)
  split
  · simp; omega
  · split
    · simp; omega
    · split
      · simp; omega
      · split
        · simp; omega
        · split <;> simp <;> omega
theorem inBr_rel {rec rec2 : RC} {front : SX} {z1 : ZX} (hcut : ∀ xs σ, rec 7 xs σ = mth true false false 1 (bX_cut rec2) xs σ) (hz : SR scX front z1) (hS : RS scX hd A σ nds) : OKm scX hd nds (mth true true true 0 (sSeq front (tailX rec)) [] σ) (aInBr z1 A) := by
  have hks : ∀ k ∈ PX, scX.isn k = 0 := by decide
  have hH := hS.hide PX hks
  have h := hz _ (L0of true []) σ (A0of true []) (hideA PX A) nds (fun k => rep_int.mpr (by simp [L0of, A0of] <;> rfl)) hH
  unfold aInBr
  generalize z1 (A0of true []) (hideA PX A) = q at h ⊢
  match q, h with
  | none, _ => exact trivial
  | some ((f, v), LV, A2), h =>
    obtain ⟨⟨f', x⟩, L2, σ2, n2, e, h1, h2, h3, h4, h5⟩ := h
    have h1 : f' = f := h1
    have h2 : rep scX.cv n2 v x := h2
    subst h1
    dsimp only
    have hm : mth true true true 0 (sSeq front (tailX rec)) [] σ = match (if f' = 0 then tailX rec L2 σ2 else some ((f', x), L2, σ2)) with
      | some ((1, v), _, σ') => if true && !(decide (v = 0) || decide (v = 1)) then none else some (some v, σ')
      | some ((2, _), _, σ') => some (none, σ')
      | _ => none := by
      unfold mth
      rw [if_pos (show ([] : List Int32).length = 0 from rfl)]
      unfold sSeq
      rw [e]
      rfl
    rw [hm]
    match f' with
    | 1 =>
      rw [if_pos rfl]
      by_cases hb : isBv v = true
      · rw [if_pos hb]
        have hx : (decide (x = 0) || decide (x = 1)) = true := by
          unfold isBv at hb
          split at hb
          · rw [rep_int] at h2; subst h2; exact hb
          · cases hb
        rw [if_neg (by decide)]
        simp only [hx, Bool.not_true, Bool.and_false]
        exact ⟨x, σ2, n2, rfl, h2, RS.unhide PX hS h4 h5, h5⟩
      · rw [if_neg hb]; exact trivial
    | 2 =>
      rw [if_neg (by decide), if_pos rfl]
      exact ⟨σ2, n2, rfl, RS.unhide PX hS h4 h5, h5⟩
    | 0 =>
      change OKm scX hd nds _ (match vI (LV 1), vI (LV 2), vI (LV 3) with
        | some b, some m, some fr => if emptyR PX A2 = true ∧ intR [0, 1, 2, 10, 11, 12] A2 = true ∧ m = nI A.nn ∧ fr = A.1 18 then some (some (.int 0), bkA PX A A2 (va_up (va_up (va_up A2.1 3 b) 17 (A2.1 17 - 1)) 18 fr)) else none
        | _, _, _ => none)
      cases e1 : vI (LV 1) with
      | none => exact trivial
      | some b =>
        cases e2 : vI (LV 2) with
        | none => exact trivial
        | some m =>
          cases e3 : vI (LV 3) with
          | none => exact trivial
          | some fr =>
            dsimp only
            by_cases hc : emptyR PX A2 = true ∧ intR [0, 1, 2, 10, 11, 12] A2 = true ∧ m = nI A.nn ∧ fr = A.1 18
            · rw [if_pos hc]
              obtain ⟨c1, c2, c3, c4⟩ := hc
              have b1 := vI_rep (h3 1) e1
              have b2 := vI_rep (h3 2) e2
              have b3 := vI_rep (h3 3) e3
              obtain ⟨t, ht⟩ := h5
              have hA : ALM = 30000 := rfl
              have hle := hS.2.2.2.2.1
              have hr : ∀ k, 4 ≤ k → k ≤ 8 → σ2.2.1 k = n2.map (fld5 (k - 4)) := fun k q1 q2 => h4.2.2.1 k ((scX_isn k).2.mpr ⟨q1, q2⟩)
              obtain ⟨σ3, r1, r2, r3, r4, r5⟩ := cutX (rec := rec2) (σ := putF (putF σ2 3 b) 17 (σ2.1 17 - 1)) (n := nds.length) (by omega) (fun k q1 q2 => by
                show _ ≤ (σ2.2.1 k).length
                rw [hr k q1 q2, List.length_map, ← ht, List.length_append]; omega)
              refine ⟨0, putF σ3 18 fr, nds, ?_, rep_int.mpr rfl, ?_, List.prefix_refl _⟩
              · have e17 : (putF σ2 3 b).1 17 = σ2.1 17 := rfl
                unfold tailX
                have em : m = nI nds.length := by rw [c3, hS.2.2.2.1]
                rw [← em] at r1
                simp [sSeq, sPutF, sOpF, sEx, sRet, sbnd, eL, eK, eCall, eArgs, bnd, hcut, b1, b2, b3, e17, oSub, r1, ofR]
              · refine RS.back PX [0, 1, 2, 10, 11, 12] hS h4 (fun k hk => ?_) c2 (fun k => ?_) (fun k hk q => ?_) (fun k hk q => ?_) (fun k hk => ?_) ?_ (fun k => ?_) ?_
                · have := (scX_isn k).1.mp hk
                  simp only [List.mem_cons, List.not_mem_nil, or_false]
                  omega
                · show va_up σ3.1 18 fr k = _
                  rw [r2]
                  unfold va_up
                  show (if k = 18 then fr else if k = 17 then σ2.1 17 - 1 else if k = 3 then b else σ2.1 k) = _
                  rw [h4.1 k, h4.1 17]
                · show σ3.2.1 k = _
                  have hk4 : ¬ (4 ≤ k ∧ k ≤ 8) := by
                    have := (scX_isn k).1.mp hk
                    omega
                  rw [r5 k hk4]
                  have g := h4.2.1 k hk
                  simp only [if_pos q] at g
                  obtain ⟨g1, l', ge, g2⟩ := g
                  have hem : A2.R k = [] := by simpa using List.all_eq_true.mp c1 k q
                  rw [hem] at g2
                  have : l' = [] := by
                    cases l' with
                    | nil => rfl
                    | cons _ _ => exact g2.elim
                  show σ2.2.1 k = _
                  rw [ge, this, List.append_nil]
                · show σ3.2.1 k = σ2.2.1 k
                  have hk4 : ¬ (4 ≤ k ∧ k ≤ 8) := by
                    have := (scX_isn k).1.mp hk
                    omega
                  rw [r5 k hk4]
                  rfl
                · have hk4 := (scX_isn k).2.mp hk
                  show σ3.2.1 k = nds.map (fld5 (k - 4))
                  rw [r4 k hk4.1 hk4.2]
                  show (σ2.2.1 k).take _ = _
                  rw [hr k hk4.1 hk4.2, ← ht, List.map_append, List.take_append_of_le_length (by rw [List.length_map]; exact Nat.le_refl _), List.take_of_length_le (by rw [List.length_map]; exact Nat.le_refl _)]
                · exact c4
                · show (σ3.2.1 k).length ≤ _
                  by_cases hk4 : 4 ≤ k ∧ k ≤ 8
                  · rw [r4 k hk4.1 hk4.2, List.length_take]
                    exact Nat.min_le_right _ _
                  · rw [r5 k hk4]
                    exact Nat.le_refl _
                · exact r3
            · rw [if_neg hc]; exact trivial
    | n + 3 =>
      rw [if_neg (by omega), if_neg (by omega), if_neg (by omega)]
      exact trivial
end BRX
