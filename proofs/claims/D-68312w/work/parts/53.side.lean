/-! the two sides: nodes in five rows (X), in one row (M) -/
def nd (k : Int32) (a b c : V) (p : Int32) : V := .elem (.int k) (.elem a (.elem b (.elem c (.int p))))
def f5 (q : ND) : List Int32 := [q.1, q.2.1, q.2.2.1, q.2.2.2.1, q.2.2.2.2]
def scX : SC := (fun k => if k < 3 then 0 else if k = 3 then 2 else if k < 9 then 1 else if k = 9 then 2 else if k < 16 then 0 else 2, fun k nds => nds.map (fld5 (k - 4)), fun i => i, 18, [0, 1, 2, 4, 5, 6, 7, 8, 9, 11, 12, 13, 14, 15, 16], fun _ => ALM)
def cvM (i : Int32) : Int32 := if 8192 ≤ i.toInt then i + 91809 else i
def ucvM (i : Int32) : Int32 := if 100000 < i.toInt then i - 91809 else i
def scM : SC := (fun k => if k < 3 then 0 else if k = 3 then 2 else if k < 6 then 0 else if k = 6 then 1 else if k < 17 then 2 else if k < 19 then 0 else 2, fun _ nds => nds.flatMap f5, cvM, 11, [5, 6, 7, 8, 9, 10, 17, 18], fun k => if k = 6 ∨ k = 7 then 5 * ALM else ALM)
theorem scX_ok : SCok scX := ⟨by decide, fun _ _ _ => Nat.le_refl _⟩
theorem scM_ok : SCok scM := ⟨by decide, fun k hk h => by
  have : k ∈ [5, 6, 7, 8, 9, 10, 17, 18] := hk
  simp only [List.mem_cons, List.not_mem_nil, or_false] at this
  show ALM ≤ if k = 6 ∨ k = 7 then 5 * ALM else ALM
  split
  · decide
  · exact Nat.le_refl _⟩
section SIDE
variable {hd : HH} {nds nds' : List ND} {L : LL} {LV : AL} {σ σ' : SS} {A A' : AS}
theorem p_NNX : EP scX (eSz 4) aNN := fun _ _ σ _ A nds _ hS => ⟨rfl, _, rfl, rep_int.mpr (by rw [hS.2.2.1 4 rfl, ← hS.2.2.2.1]; show nI (nds.map _).length = _; rw [List.length_map])⟩
theorem ix_nat {l : List Int32} {n : Nat} (hn : n < 2 ^ 31) : ix l (nI n) = l[n]? := by
  unfold ix
  rw [if_neg (nI_pos hn), nI_clamp hn]
theorem p_NdX {j : Nat} {a : EX} {a' : AX} (hj : j < 5) (ha : EP scX a a') : EP scX (eAt (j + 4) a) (aNd (fun i => i) j a') := by
  intro hd L σ LV A nds hL hS
  refine EP.bnd ha hL hS fun x v hv => ?_
  rw [if_pos rfl]
  cases h : ndF (fun i => i) j v with
  | none => exact trivial
  | some w =>
    obtain ⟨n, q, h1, h2, h3, h4⟩ := rep_nd hv h
    have e : σ.2.1 (j + 4) = nds.map (fld5 j) := by
      rw [hS.2.2.1 (j + 4) (by show (if j + 4 < 3 then 0 else if j + 4 = 3 then 2 else if j + 4 < 9 then 1 else _) = 1; rw [if_neg (by omega), if_neg (by omega), if_pos (by omega)])]
      show nds.map (fld5 (j + 4 - 4)) = _
      rw [Nat.add_sub_cancel]
    have e2 : ix (σ.2.1 (j + 4)) x = some (fld5 j q) := by rw [h2, ix_nat (by omega), e, List.getElem?_map, h3]; rfl
    rw [e2]
    exact ⟨rfl, _, rfl, h4⟩
theorem flat5 : ∀ (nds : List ND) (n j : Nat) (q : ND), nds[n]? = some q → j < 5 → (nds.flatMap f5)[5 * n + j]? = some (fld5 j q) := by
  intro nds
  induction nds with
  | nil => intro n j q h; simp at h
  | cons a t ih =>
    intro n j q h hj
    rw [List.flatMap_cons]
    cases n with
    | zero =>
      simp at h
      subst h
      rw [List.getElem?_append_left (by show _ < 5; omega)]
      match j, hj with
      | 0, _ => rfl
      | 1, _ => rfl
      | 2, _ => rfl
      | 3, _ => rfl
      | 4, _ => rfl
    | succ n =>
      simp at h
      rw [List.getElem?_append_right (by show 5 ≤ _; omega)]
      show (t.flatMap f5)[5 * (n + 1) + j - 5]? = _
      rw [show 5 * (n + 1) + j - 5 = 5 * n + j by omega]
      exact ih n j q h hj
theorem flat5_len (nds : List ND) : (nds.flatMap f5).length = 5 * nds.length := by
  induction nds with
  | nil => rfl
  | cons a t ih => rw [List.flatMap_cons, List.length_append, ih]; show 5 + _ = 5 * (t.length + 1); omega
def aN5 : AX := fun _ A => some (some (.int (nI (5 * A.nn))), A)
theorem p_NNM : EP scM (eSz 6) aN5 := fun _ _ σ _ A nds _ hS => ⟨rfl, _, rfl, rep_int.mpr (by rw [hS.2.2.1 6 rfl, ← hS.2.2.2.1]; show nI (nds.flatMap f5).length = _; rw [flat5_len])⟩
theorem nI_mul5 (n j : Nat) : (5 : Int32) * nI n + nI j = nI (5 * n + j) := by
  rw [← nI_add]
  show _ = Int32.ofNat (5 * n) + _
  rw [Int32.ofNat_mul]
  rfl
theorem ndM_at {j : Nat} {v w : V} {x : Int32} (hj : j < 5) (hS : RS scM hd A σ nds) (hv : rep cvM nds v x) (h : ndF cvM j v = some w) : ∃ y, ix (σ.2.1 6) (5 * x + nI j) = some y ∧ rep cvM nds w y := by
  obtain ⟨n, q, h1, h2, h3, h4⟩ := rep_nd hv h
  have hn := (List.getElem?_eq_some_iff.mp h3).1
  have hlen := hS.2.2.2.2.1
  have hA : ALM = 30000 := rfl
  refine ⟨_, ?_, h4⟩
  rw [h2, nI_mul5, ix_nat (by omega), hS.2.2.1 6 rfl]
  exact flat5 nds n j q h3 hj
theorem p_NdM0 {a : EX} {a' : AX} (ha : EP scM a a') : EP scM (eAt 6 (eBin oMul (eK 5) a)) (aNd cvM 0 a') := by
  intro hd L σ LV A nds hL hS
  have h := ha hd L σ LV A nds hL hS
  unfold aNd eAt eBin
  generalize a' LV A = q at h ⊢
  match q, h with
  | none, _ => exact trivial
  | some (some v, A'), h =>
    obtain ⟨e, x, h1, h2⟩ := h
    subst e
    simp only [bnd, ab, eK, h1]
    cases hw : ndF cvM 0 v with
    | none => exact trivial
    | some w =>
      obtain ⟨y, g1, g2⟩ := ndM_at (by decide) hS h2 hw
      refine ⟨rfl, y, ?_, g2⟩
      have e0 : (5 : Int32) * x + nI 0 = oMul 5 x := by rw [nI_0, Int32.add_zero]; rfl
      rw [e0] at g1
      rw [if_pos trivial, g1]
theorem p_NdM {j : Nat} {i : Int32} {a : EX} {a' : AX} (hj : j < 5) (hi : i = nI j) (ha : EP scM a a') : EP scM (eAt 6 (eBin oAdd (eBin oMul (eK 5) a) (eK i))) (aNd cvM j a') := by
  intro hd L σ LV A nds hL hS
  have h := ha hd L σ LV A nds hL hS
  unfold aNd eAt eBin
  generalize a' LV A = q at h ⊢
  match q, h with
  | none, _ => exact trivial
  | some (some v, A'), h =>
    obtain ⟨e, x, h1, h2⟩ := h
    subst e
    simp only [bnd, ab, eK, h1]
    cases hw : ndF cvM j v with
    | none => exact trivial
    | some w =>
      obtain ⟨y, g1, g2⟩ := ndM_at hj hS h2 hw
      refine ⟨rfl, y, ?_, g2⟩
      have e0 : oAdd (oMul 5 x) i = (5 : Int32) * x + nI j := by rw [hi]; rfl
      rw [if_pos trivial, e0, g1]
/-! making nodes -/
def amk (cv ucv : Int32 → Int32) (frk : Nat) (vs : List V) (A : AS) : Option (Option V × AS) := match vs with
  | [.int k, a, b, c, .int p] => if A.nn < ALM then (if k = 11 ∨ k = 32 then (match vI a with
      | some i => if cv (ucv i) = i ∧ (ucv i).toInt < 8192 + (A.1 frk).toInt ∧ okN k (.int (ucv i)) b c = true then some (some (nd k (.int (ucv i)) b c p), (A.1, A.2.1, A.2.2.1, A.nn + 1, A.fl)) else none
      | none => none) else if okN k a b c = true then some (some (nd k a b c p), (A.1, A.2.1, A.2.2.1, A.nn + 1, A.fl)) else none) else none
  | _ => none
theorem F2.five {cv : Int32 → Int32} {a b d e f : V} {xs : List Int32} (h : F2 (rep cv nds) [a, b, d, e, f] xs) : ∃ x1 x2 x3 x4 x5, xs = [x1, x2, x3, x4, x5] ∧ rep cv nds a x1 ∧ rep cv nds b x2 ∧ rep cv nds d x3 ∧ rep cv nds e x4 ∧ rep cv nds f x5 := by
  match xs, h with
  | [x1, x2, x3, x4, x5], h => exact ⟨x1, x2, x3, x4, x5, rfl, h.1, h.2.1, h.2.2.1, h.2.2.2.1, h.2.2.2.2.1⟩
theorem isT_lt {cv : Int32 → Int32} {v : V} {x : Int32} (h : rep cv nds v x) (hl : nds.length ≤ ALM) (ht : isT v = true) : x < nI nds.length := by
  match v, ht with
  | .elem s t, _ =>
    rw [rep.eq_def] at h
    split at h
    · next e => cases e
    · obtain ⟨n, _, _, _, h1, h2, h3, _⟩ := h
      have hA : ALM = 30000 := rfl
      rw [h2]
      exact nI_lt (List.getElem?_eq_some_iff.mp h3).1 (by omega)
    · exact h.elim
/-- the new node -/
theorem rep_new {c : SC} {k p a' b' d' : Int32} {a b d : V} (hl : nds.length < ALM) (hok : okN k a b d = true) (ha : if k = 11 ∨ k = 32 then ∃ i, a = .int i ∧ a' = c.cv i else rep c.cv nds a a') (hb : rep c.cv nds b b') (hd0 : rep c.cv nds d d') : rep c.cv (nds ++ [(k, a', b', d', p)]) (nd k a b d p) (nI nds.length) := by
  have hp : nds <+: nds ++ [(k, a', b', d', p)] := List.prefix_append _ _
  have hA : ALM = 30000 := rfl
  have hle : nds.length ≤ ALM := by omega
  unfold nd
  rw [rep]
  refine ⟨nds.length, a', b', d', by omega, rfl, by simp, hok, ?_, rep_mono hp _ _ hb, rep_mono hp _ _ hd0, fun ht => ?_, isT_lt hb hle, isT_lt hd0 hle⟩
  · split at ha
    · next hk => rw [if_pos hk]; exact ha
    · next hk => rw [if_neg hk]; exact rep_mono hp _ _ ha
  · split at ha
    · obtain ⟨i, e, _⟩ := ha
      rw [e] at ht
      cases ht
    · exact isT_lt ha hle ht
theorem NI.app {c : SC} {fr k a b d p : Int32} (h : NI c nds fr) (hn : k = 11 ∨ k = 32 → ∃ i, a = c.cv i ∧ i.toInt < 8192 + fr.toInt) : NI c (nds ++ [(k, a, b, d, p)]) fr := by
  intro n k' a' b' d' p' hq hk
  by_cases hlt : n < nds.length
  · rw [List.getElem?_append_left hlt] at hq
    exact h n k' a' b' d' p' hq hk
  · rw [List.getElem?_append_right (by omega)] at hq
    have h0 : n - nds.length = 0 := by
      have := (List.getElem?_eq_some_iff.mp hq).1
      simp at this
      omega
    rw [h0] at hq
    simp at hq
    obtain ⟨rfl, rfl, rfl, rfl, rfl⟩ := hq
    exact hn hk
theorem RS.node {c : SC} {k p a b d : Int32} (hS : RS c hd A σ nds) (hl : A.nn < ALM) (hn : k = 11 ∨ k = 32 → ∃ i, a = c.cv i ∧ i.toInt < 8192 + (A.1 c.frk).toInt) (h1 : σ'.1 = σ.1) (h2 : ∀ j, c.isn j = 0 → σ'.2.1 j = σ.2.1 j) (h3 : ∀ j, c.isn j = 1 → σ'.2.1 j = c.nrow j (nds ++ [(k, a, b, d, p)])) (h4 : RM c A.fl σ') : RS c hd (A.1, A.2.1, A.2.2.1, A.nn + 1, A.fl) σ' (nds ++ [(k, a, b, d, p)]) := by
  obtain ⟨g1, g2, g3, g4, g5, g6, g7⟩ := hS
  refine ⟨fun j => by rw [h1]; exact g1 j, fun j hj => ?_, h3, ?_, ?_, NI.app g6 hn, h4⟩
  · rw [h2 j hj]
    exact RR.mono (g2 j hj) (List.prefix_append _ _)
  · show _ = A.nn + 1
    rw [List.length_append, g4]; rfl
  · rw [List.length_append, g4]; exact hl
theorem amk_rel {c : SC} {ucv : Int32 → Int32} {run : List Int32 → SS → Option (Option Int32 × SS)}
    (hrun : ∀ (hd : HH) (A : AS) (σ : SS) (nds : List ND) (k a b d p : Int32), RS c hd A σ nds → A.nn < ALM → ∃ σ', run [k, a, b, d, p] σ = some (some (nI nds.length), σ') ∧ σ'.1 = σ.1 ∧ (∀ j, c.isn j = 0 → σ'.2.1 j = σ.2.1 j) ∧ (∀ j, c.isn j = 1 → σ'.2.1 j = c.nrow j (nds ++ [(k, a, b, d, p)])) ∧ RM c A.fl σ')
    {vs : List V} {xs : List Int32} (hv : F2 (rep c.cv nds) vs xs) (hS : RS c hd A σ nds) : OKm c hd nds (run xs σ) (amk c.cv ucv c.frk vs A) := by
  unfold amk
  split
  · next k a b d p =>
    obtain ⟨x1, x2, x3, x4, x5, e, h1, h2, h3, h4, h5⟩ := hv.five
    subst e
    rw [rep_int] at h1 h5
    subst h1; subst h5
    by_cases hl : A.nn < ALM
    · rw [if_pos hl]
      obtain ⟨σ', r1, r2, r3, r4, r5⟩ := hrun hd A σ nds x1 x2 x3 x4 x5 hS hl
      rw [r1]
      have hlen : nds.length < ALM := by rw [hS.2.2.2.1]; exact hl
      by_cases hk : x1 = 11 ∨ x1 = 32
      · rw [if_pos hk]
        cases hi : vI a with
        | none => exact trivial
        | some i =>
          have hx2 : x2 = i := vI_rep h2 hi
          subst hx2
          dsimp only
          by_cases hc : c.cv (ucv x2) = x2 ∧ (ucv x2).toInt < 8192 + (A.1 c.frk).toInt ∧ okN x1 (.int (ucv x2)) b d = true
          · rw [if_pos hc]
            exact ⟨_, σ', _, rfl, rep_new hlen hc.2.2 (by rw [if_pos hk]; exact ⟨_, rfl, hc.1.symm⟩) h3 h4, hS.node hl (fun _ => ⟨_, hc.1.symm, hc.2.1⟩) r2 r3 r4 r5, List.prefix_append _ _⟩
          · rw [if_neg hc]; exact trivial
      · rw [if_neg hk]
        by_cases hc : okN x1 a b d = true
        · rw [if_pos hc]
          exact ⟨_, σ', _, rfl, rep_new hlen hc (by rw [if_neg hk]; exact h2) h3 h4, hS.node hl (fun q => absurd q hk) r2 r3 r4 r5, List.prefix_append _ _⟩
        · rw [if_neg hc]; exact trivial
    · rw [if_neg hl]; exact trivial
  · exact trivial
theorem makeX {rec : RC} (hd : HH) (A : AS) (σ : SS) (nds : List ND) (k a b d p : Int32) (hS : RS scX hd A σ nds) (hl : A.nn < ALM) : ∃ σ', mth true true false 5 (bX_make rec) [k, a, b, d, p] σ = some (some (nI nds.length), σ') ∧ σ'.1 = σ.1 ∧ (∀ j, scX.isn j = 0 → σ'.2.1 j = σ.2.1 j) ∧ (∀ j, scX.isn j = 1 → σ'.2.1 j = scX.nrow j (nds ++ [(k, a, b, d, p)])) ∧ RM scX A.fl σ' := by
  obtain ⟨g1, g2, g3, g4, g5, g6, g7⟩ := hS
  have hA : ALM = 30000 := rfl
  have e4 : σ.2.1 4 = nds.map (fld5 0) := g3 4 rfl
  have e5 : σ.2.1 5 = nds.map (fld5 1) := g3 5 rfl
  have e6 : σ.2.1 6 = nds.map (fld5 2) := g3 6 rfl
  have e7 : σ.2.1 7 = nds.map (fld5 3) := g3 7 rfl
  have e8 : σ.2.1 8 = nds.map (fld5 4) := g3 8 rfl
  have hln : nds.length < ALM := by rw [g4]; exact hl
  obtain ⟨σ1, a1, b1, c1, d1⟩ := g7.add scX_ok (k := 4) (by decide) (x := k) (by rw [e4, List.length_map]; exact hln)
  obtain ⟨σ2, a2, b2, c2, d2⟩ := d1.add scX_ok (k := 5) (by decide) (x := a) (by rw [c1, va_up_ne _ _ (by decide), e5, List.length_map]; exact hln)
  obtain ⟨σ3, a3, b3, c3, d3⟩ := d2.add scX_ok (k := 6) (by decide) (x := b) (by rw [c2, c1, va_up_ne _ _ (by decide), va_up_ne _ _ (by decide), e6, List.length_map]; exact hln)
  obtain ⟨σ4, a4, b4, c4, d4⟩ := d3.add scX_ok (k := 7) (by decide) (x := d) (by rw [c3, c2, c1, va_up_ne _ _ (by decide), va_up_ne _ _ (by decide), va_up_ne _ _ (by decide), e7, List.length_map]; exact hln)
  obtain ⟨σ5, a5, b5, c5, d5⟩ := d4.add scX_ok (k := 8) (by decide) (x := p) (by rw [c4, c3, c2, c1, va_up_ne _ _ (by decide), va_up_ne _ _ (by decide), va_up_ne _ _ (by decide), va_up_ne _ _ (by decide), e8, List.length_map]; exact hln)
  have f4 : σ5.2.1 4 = nds.map (fld5 0) ++ [k] := by simp [c5, c4, c3, c2, c1, va_up, e4]
  have f5' : σ5.2.1 5 = nds.map (fld5 1) ++ [a] := by simp [c5, c4, c3, c2, c1, va_up, e5]
  have f6 : σ5.2.1 6 = nds.map (fld5 2) ++ [b] := by simp [c5, c4, c3, c2, c1, va_up, e6]
  have f7 : σ5.2.1 7 = nds.map (fld5 3) ++ [d] := by simp [c5, c4, c3, c2, c1, va_up, e7]
  have f8 : σ5.2.1 8 = nds.map (fld5 4) ++ [p] := by simp [c5, c4, c3, c2, c1, va_up, e8]
  refine ⟨σ5, ?_, by rw [b5, b4, b3, b2, b1], fun j hj => ?_, fun j hj => ?_, d5⟩
  · have hs : oSub (nI (σ5.2.1 4).length) 1 = nI nds.length := by rw [f4, List.length_append, List.length_map]; exact nI_pred _
    simp [mth, bX_make, sSeq, sAdd, sbnd, sgo, sRet, eBin, eSz, eK, eL, bnd, L0of, a1, a2, a3, a4, a5, hs]
  · have : j ≠ 4 ∧ j ≠ 5 ∧ j ≠ 6 ∧ j ≠ 7 ∧ j ≠ 8 := by
      refine ⟨?_, ?_, ?_, ?_, ?_⟩ <;> (intro e; subst e; revert hj; decide)
    rw [c5, c4, c3, c2, c1, va_up_ne _ _ this.2.2.2.2, va_up_ne _ _ this.2.2.2.1, va_up_ne _ _ this.2.2.1, va_up_ne _ _ this.2.1, va_up_ne _ _ this.1]
  · have hj' : j = 4 ∨ j = 5 ∨ j = 6 ∨ j = 7 ∨ j = 8 := by
      have : (if j < 3 then 0 else if j = 3 then 2 else if j < 9 then 1 else if j = 9 then 2 else if j < 16 then 0 else 2) = 1 := hj
      split at this
      · cases this
      · split at this
        · cases this
        · split at this
          · omega
          · split at this
            · cases this
            · split at this <;> cases this
    show σ5.2.1 j = (nds ++ [(k, a, b, d, p)]).map (fld5 (j - 4))
    rw [List.map_append]
    rcases hj' with rfl | rfl | rfl | rfl | rfl
    · exact f4
    · exact f5'
    · exact f6
    · exact f7
    · exact f8
end SIDE
