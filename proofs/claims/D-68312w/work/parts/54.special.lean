/-! methods by hand: make (M), faults, a call stored in a row, the brackets that are tried -/
section SPC
variable {hd : HH} {nds nds' : List ND} {L : LL} {LV : AL} {σ σ' : SS} {A A' : AS}
theorem nI_div5 {m : Nat} (h : m < 2 ^ 28) : nI (5 * m) / 5 = nI m := by
  apply Int32.toInt_inj.mp
  rw [Int32.toInt_div, nI_toInt (by omega), nI_toInt (by omega)]
  have e : (((5 * m : Nat) : Int).tdiv (5 : Int32).toInt) = (m : Int) := by
    have : (5 : Int32).toInt = 5 := by decide
    rw [this, Int.natCast_mul]
    exact Int.mul_tdiv_cancel_left _ (by decide)
  rw [e, Int.bmod_eq_of_le] <;> omega
theorem makeM {rec : RC} (hd : HH) (A : AS) (σ : SS) (nds : List ND) (k a b d p : Int32) (hS : RS scM hd A σ nds) (hl : A.nn < ALM) : ∃ σ', mth true true false 5 (bM_make rec) [k, a, b, d, p] σ = some (some (nI nds.length), σ') ∧ σ'.1 = σ.1 ∧ (∀ j, scM.isn j = 0 → σ'.2.1 j = σ.2.1 j) ∧ (∀ j, scM.isn j = 1 → σ'.2.1 j = scM.nrow j (nds ++ [(k, a, b, d, p)])) ∧ RM scM A.fl σ' := by
  obtain ⟨g1, g2, g3, g4, g5, g6, g7⟩ := hS
  have hA : ALM = 30000 := rfl
  have e6 : σ.2.1 6 = nds.flatMap f5 := g3 6 rfl
  have hln : nds.length < ALM := by rw [g4]; exact hl
  have hLM : scM.LM 6 = 5 * ALM := rfl
  have hl0 := flat5_len nds
  obtain ⟨σ1, a1, b1, c1, d1⟩ := g7.add scM_ok (k := 6) (by decide) (x := k) (by rw [e6, hl0, hLM]; omega)
  have h1 : σ1.2.1 6 = nds.flatMap f5 ++ [k] := by rw [c1, va_up_self, e6]
  obtain ⟨σ2, a2, b2, c2, d2⟩ := d1.add scM_ok (k := 6) (by decide) (x := a) (by rw [h1, List.length_append, hl0, hLM]; simp; omega)
  have h2 : σ2.2.1 6 = nds.flatMap f5 ++ [k, a] := by rw [c2, va_up_self, h1]; simp
  obtain ⟨σ3, a3, b3, c3, d3⟩ := d2.add scM_ok (k := 6) (by decide) (x := b) (by rw [h2, List.length_append, hl0, hLM]; simp; omega)
  have h3 : σ3.2.1 6 = nds.flatMap f5 ++ [k, a, b] := by rw [c3, va_up_self, h2]; simp
  obtain ⟨σ4, a4, b4, c4, d4⟩ := d3.add scM_ok (k := 6) (by decide) (x := d) (by rw [h3, List.length_append, hl0, hLM]; simp; omega)
  have h4 : σ4.2.1 6 = nds.flatMap f5 ++ [k, a, b, d] := by rw [c4, va_up_self, h3]; simp
  obtain ⟨σ5, a5, b5, c5, d5⟩ := d4.add scM_ok (k := 6) (by decide) (x := p) (by rw [h4, List.length_append, hl0, hLM]; simp; omega)
  have h5 : σ5.2.1 6 = nds.flatMap f5 ++ [k, a, b, d, p] := by rw [c5, va_up_self, h4]; simp
  refine ⟨σ5, ?_, by rw [b5, b4, b3, b2, b1], fun j hj => ?_, fun j hj => ?_, d5⟩
  · have hs : oSub (oDiv (nI (σ5.2.1 6).length) 5) 1 = nI nds.length := by
      rw [h5, List.length_append, hl0]
      show nI (5 * nds.length + 5) / 5 - 1 = _
      rw [show 5 * nds.length + 5 = 5 * (nds.length + 1) by omega, nI_div5 (by omega)]
      exact nI_pred _
    simp [mth, bM_make, sSeq, sAdd, sbnd, sgo, sRet, eBin, eDiv, eSz, eK, eL, bnd, L0of, a1, a2, a3, a4, a5, hs]
  · have : j ≠ 6 := by intro e; subst e; revert hj; decide
    rw [c5, c4, c3, c2, c1, va_up_ne _ _ this, va_up_ne _ _ this, va_up_ne _ _ this, va_up_ne _ _ this, va_up_ne _ _ this]
  · have hj' : j = 6 := by
      have : (if j < 3 then 0 else if j = 3 then 2 else if j < 6 then 0 else if j = 6 then 1 else if j < 17 then 2 else if j < 19 then 0 else 2) = 1 := hj
      split at this
      · cases this
      · split at this
        · cases this
        · split at this
          · cases this
          · split at this
            · assumption
            · split at this
              · cases this
              · split at this <;> cases this
    subst hj'
    show σ5.2.1 6 = (nds ++ [(k, a, b, d, p)]).flatMap f5
    rw [List.flatMap_append, h5]
    rfl
/-- a fault of X makes what it throws; of M throws what was made -/
def fltX (as : List Int32) (σ : SS) : Option (Option Int32 × SS) := match as with
  | [k] => if σ.2.2.2.1 + 4 ≤ MXC ∧ σ.2.2.2.2 + 64 ≤ MXS then some (none, (va_up (va_up σ.1 19 k) 20 (σ.1 3), σ.2.1, σ.2.2.1, σ.2.2.2.1 + 4, σ.2.2.2.2 + 64)) else none
  | _ => none
def failM (as : List Int32) (σ : SS) : Option (Option Int32 × SS) := match as with
  | [k, w] => some (none, putF (putF σ 15 k) 16 w)
  | _ => none
def aflt (vs : List V) (A : AS) : Option (Option V × AS) := match vs with
  | [.int k] => if 0 < A.fl then some (none, (va_up (va_up A.1 19 k) 20 (A.1 3), A.2.1, A.2.2.1, A.nn, A.fl - 1)) else none
  | _ => none
def afail (vs : List V) (A : AS) : Option (Option V × AS) := match vs with
  | [.int k, .int w] => some (none, apF (apF A 15 k) 16 w)
  | _ => none
theorem aflt_rel {vs : List V} {xs : List Int32} (hv : F2 (rep scX.cv nds) vs xs) (hS : RS scX hd A σ nds) : OKm scX hd nds (fltX xs σ) (aflt vs A) := by
  unfold aflt
  split
  · next k =>
    match xs, hv with
    | [x], hv =>
      have hx := rep_int.mp hv.1
      subst hx
      by_cases hf : 0 < A.fl
      · rw [if_pos hf]
        obtain ⟨g1, g2, g3, g4, g5, g6, g7, g8, g9⟩ := hS
        unfold fltX
        have hc : σ.2.2.2.1 + 4 ≤ MXC ∧ σ.2.2.2.2 + 64 ≤ MXS := by constructor <;> omega
        dsimp only
        rw [if_pos hc]
        refine ⟨_, nds, rfl, ⟨fun j => ?_, g2, g3, g4, g5, ?_, g7, ?_, ?_⟩, List.prefix_refl _⟩
        · show va_up (va_up σ.1 19 x) 20 (σ.1 3) j = va_up (va_up A.1 19 x) 20 (A.1 3) j
          rw [g1 3]
          unfold va_up
          split
          · rfl
          · split
            · rfl
            · exact g1 j
        · show NI scX nds (va_up (va_up A.1 19 x) 20 (A.1 3) 18)
          rw [va_up_ne _ _ (by decide), va_up_ne _ _ (by decide)]
          exact g6
        · show 64 * (σ.2.2.2.1 + 4 + 4 * (A.fl - 1)) + sumC scX σ.2.2.1 ≤ _
          omega
        · show σ.2.2.2.2 + 64 + 64 * (A.fl - 1) + 2 * sumC scX σ.2.2.1 ≤ _
          omega
      · rw [if_neg hf]; exact trivial
  · exact trivial
theorem afail_rel {vs : List V} {xs : List Int32} (hv : F2 (rep scM.cv nds) vs xs) (hS : RS scM hd A σ nds) : OKm scM hd nds (failM xs σ) (afail vs A) := by
  unfold afail
  split
  · next k w =>
    match xs, hv with
    | [x, y], hv =>
      have hx := rep_int.mp hv.1
      have hy := rep_int.mp hv.2.1
      subst hx; subst hy
      exact ⟨_, nds, rfl, (hS.putF (Or.inl (by decide))).putF (Or.inl (by decide)), List.prefix_refl _⟩
  · exact trivial
/-- pure arguments -/
def GP (c : SC) (a : List EX) (a' : List AX) : Prop := ∀ h L σ LV A nds, RL c nds LV L → RS c h A σ nds → match aArgs a' LV A with
  | none => True
  | some (none, _) => False
  | some (some vs, A') => A' = A ∧ ∃ xs, eArgs a L σ = some (some xs, L, σ) ∧ F2 (rep c.cv nds) vs xs
theorem gp_nil {c : SC} : GP c [] [] := fun _ _ _ _ _ _ _ _ => ⟨rfl, [], rfl, trivial⟩
theorem gp_cons {c : SC} {a : EX} {a' : AX} {t : List EX} {t' : List AX} (ha : EP c a a') (ht : GP c t t') : GP c (a :: t) (a' :: t') := by
  intro h L σ LV A nds hL hS
  have h1 := ha h L σ LV A nds hL hS
  have h2 := ht h L σ LV A nds hL hS
  unfold aArgs eArgs
  generalize a' LV A = q at h1 ⊢
  match q, h1 with
  | none, _ => exact trivial
  | some (some v, A1), h1 =>
    obtain ⟨e, x, g1, g2⟩ := h1
    subst e
    rw [g1]
    simp only [ab, bnd]
    generalize aArgs t' LV A1 = r at h2 ⊢
    match r, h2 with
    | none, _ => exact trivial
    | some (some vs, A2), h2 =>
      obtain ⟨e, xs, f1, f2⟩ := h2
      subst e
      rw [f1]
      exact ⟨rfl, x :: xs, rfl, g2, f2⟩
/-- a call that leaves the row's array where it is -/
theorem sr_AtC {c : SC} {rec : RC} {arc : ARC} (hR : AR c rec arc) {k t : Nat} (hk : c.isn k = 0) (hcap : ∀ xs σ r σ', rec t xs σ = some (r, σ') → σ'.2.2.1 k = σ.2.2.1 k) {i : EX} {i' : AX} {as : List EX} {as' : List AX} (hi : EP c i i') (ha : GP c as as') : SR c (sAt k i (eCall rec t as)) (zAt k i' (aCall arc t as')) := by
  intro hd L σ LV A nds hL hS
  have h1 := hi hd L σ LV A nds hL hS
  have h2 := ha hd L σ LV A nds hL hS
  unfold sAt zAt eCall aCall
  generalize i' LV A = q1 at h1 ⊢
  match q1, h1 with
  | none, _ => exact trivial
  | some (some j, A1), h1 =>
    obtain ⟨e, y, g1, g2⟩ := h1
    subst e
    rw [g1]
    simp only [zb, sbnd]
    generalize aArgs as' LV A1 = q2 at h2 ⊢
    match q2, h2 with
    | none, _ => exact trivial
    | some (some vs, A2), h2 =>
      obtain ⟨e, xs, f1, f2⟩ := h2
      subst e
      rw [f1]
      simp only [ab, bnd]
      have h3 := hR hd t vs xs A2 σ nds f2 hS
      generalize arc t vs A2 = q3 at h3 ⊢
      match q3, h3 with
      | none, _ => exact trivial
      | some (none, A3), h3 =>
        obtain ⟨σ3, n3, e3, r1, r2⟩ := h3
        rw [e3]
        exact ⟨(2, 0), L, σ3, n3, rfl, rfl, rep_int.mpr rfl, hL.mono r2, r1, r2⟩
      | some (some v, A3), h3 =>
        obtain ⟨x, σ3, n3, e3, r0, r1, r2⟩ := h3
        rw [e3]
        simp only [ofR]
        rw [if_pos (hcap xs σ _ σ3 e3)]
        refine OKs.trans r2 (OKs.zgo (hL.mono r2) fun A4 h4 => ?_)
        obtain ⟨σ', p1, _, p2⟩ := vset_rep r1 (rep_mono r2 _ _ g2) r0 hk h4
        exact ⟨σ', p1, p2⟩
theorem rowAdd_cap {k j : Nat} {v : Int32} (h : rowAdd σ k v = some σ') (hj : j ≠ k) : σ'.2.2.1 j = σ.2.2.1 j := by
  unfold rowAdd at h
  split at h
  · have e := Option.some.inj h; subst e; rfl
  · split at h
    · have e := Option.some.inj h; subst e; exact va_up_ne _ _ hj
    · cases h
theorem makeX_cap {rec : RC} {k : Nat} (hk : 8 < k) : ∀ xs σ r σ', mth true true false 5 (bX_make rec) xs σ = some (r, σ') → σ'.2.2.1 k = σ.2.2.1 k := by
  intro xs σ r σ' h
  unfold mth at h
  split at h
  · simp only [bX_make, sSeq, sAdd, sRet, eL, sbnd] at h
    cases h1 : rowAdd σ 4 (L0of true xs 1) with
    | none => simp [h1, sgo] at h
    | some σ1 =>
      simp only [h1, sgo, if_true] at h
      cases h2 : rowAdd σ1 5 (L0of true xs 2) with
      | none => simp [h2] at h
      | some σ2 =>
        simp only [h2, if_true] at h
        cases h3 : rowAdd σ2 6 (L0of true xs 3) with
        | none => simp [h3] at h
        | some σ3 =>
          simp only [h3, if_true] at h
          cases h4 : rowAdd σ3 7 (L0of true xs 4) with
          | none => simp [h4] at h
          | some σ4 =>
            simp only [h4, if_true] at h
            cases h5 : rowAdd σ4 8 (L0of true xs 5) with
            | none => simp [h5] at h
            | some σ5 =>
              simp only [h5, if_true, eBin, eSz, eK, bnd, sbnd] at h
              simp at h
              obtain ⟨-, rfl⟩ := h
              rw [rowAdd_cap h5 (by omega), rowAdd_cap h4 (by omega), rowAdd_cap h3 (by omega), rowAdd_cap h2 (by omega), rowAdd_cap h1 (by omega)]
  · cases h
theorem makeM_cap {rec : RC} {k : Nat} (hk : 6 < k) : ∀ xs σ r σ', mth true true false 5 (bM_make rec) xs σ = some (r, σ') → σ'.2.2.1 k = σ.2.2.1 k := by
  intro xs σ r σ' h
  unfold mth at h
  split at h
  · simp only [bM_make, sSeq, sAdd, sRet, eL, sbnd] at h
    cases h1 : rowAdd σ 6 (L0of true xs 1) with
    | none => simp [h1, sgo] at h
    | some σ1 =>
      simp only [h1, sgo, if_true] at h
      cases h2 : rowAdd σ1 6 (L0of true xs 2) with
      | none => simp [h2] at h
      | some σ2 =>
        simp only [h2, if_true] at h
        cases h3 : rowAdd σ2 6 (L0of true xs 3) with
        | none => simp [h3] at h
        | some σ3 =>
          simp only [h3, if_true] at h
          cases h4 : rowAdd σ3 6 (L0of true xs 4) with
          | none => simp [h4] at h
          | some σ4 =>
            simp only [h4, if_true] at h
            cases h5 : rowAdd σ4 6 (L0of true xs 5) with
            | none => simp [h5] at h
            | some σ5 =>
              simp only [h5, if_true, eBin, eDiv, eSz, eK, bnd, sbnd] at h
              simp at h
              obtain ⟨-, rfl⟩ := h
              rw [rowAdd_cap h5 (by omega), rowAdd_cap h4 (by omega), rowAdd_cap h3 (by omega), rowAdd_cap h2 (by omega), rowAdd_cap h1 (by omega)]
  · cases h
end SPC
