/-! what stands behind an expression -/
def Q4 (tk : TK) (i : Nat) : Prop := sg tk i 40 = false ∧ sg tk i 3 = false ∧ sg tk i 24 = false ∧ sg tk i 13 = false
def EndQ {α : Type} (tk : TK) (p : PA α) : Prop := ∀ ps v ps', p ps = some (.inl (v, ps')) → Q4 tk ps'.1
section PEN
variable {α β : Type} {tk : TK} {ps ps' : PS}
theorem grE_inv {p : PA α} {v : α} (h : grE tk p ps = some (.inl (v, ps'))) : p ps = some (.inl (v, ps')) := by
  unfold grE at h
  split at h
  · cases h
  · cases h
  · split at h
    · next e q =>
      have h := Option.some.inj h
      have h := Sum.inl.inj h
      obtain ⟨rfl, rfl⟩ := h
      exact e
    · cases h
theorem EndQ.gE {p : PA α} (h : EndQ tk p) : EndQ tk (grE tk p) := fun ps v ps' hp => h ps v ps' (grE_inv hp)
theorem endq_mch {pat E : PA TR} (hE : EndQ tk E) : EndQ tk (pMch tk pat E) := by
  refine EndQ.gE ?_
  have key : ∀ (M : Nat) (ps : PS) (l : List TR) (ps' : PS), pMore tk 44 (pRul tk pat E) M ps = some (.inl (l, ps')) → Q4 tk ps'.1 := by
    intro M
    induction M with
    | zero => intro ps l ps' h; cases h
    | succ M ih =>
      intro ps l ps' h
      obtain ⟨t, ps1, h1, h2⟩ := pb_inv h
      split at h2
      · obtain ⟨l2, ps2, h3, h4⟩ := pb_inv h2
        cases h4
        exact ih _ _ _ h3
      · cases h2
        unfold pRul at h1
        obtain ⟨p, ps3, k1, k2⟩ := pb_inv h1
        obtain ⟨_, k3⟩ := pNeed_inv k2
        obtain ⟨e, ps4, k4, k5⟩ := pb_inv k3
        cases k5
        exact hE _ _ _ k4
  exact fun ps l ps' h => key LF ps l ps' h
theorem endq_form {pat E : PA TR} (hE : EndQ tk E) : EndQ tk (pForm tk pat E) := by
  intro ps v ps' h
  unfold pForm at h
  obtain ⟨_, h⟩ := pAdv_inv (pEnter_inv h)
  obtain ⟨t, ps1, h1, h2⟩ := pb_inv h
  have e : ps'.1 = ps1.1 := by
    cases h2
    rfl
  rw [e]
  have h1 := grE_inv h1
  have hM := endq_mch (pat := pat) hE
  split at h1
  · obtain ⟨l, ps2, k1, k2⟩ := pb_inv h1
    cases k2
    exact hM _ _ _ k1
  · split at h1
    · unfold pCase at h1
      obtain ⟨x, ps2, k1, k2⟩ := pb_inv h1
      obtain ⟨_, k3⟩ := pNeed_inv k2
      obtain ⟨l, ps3, k4, k5⟩ := pb_inv k3
      cases k5
      exact hM _ _ _ k4
    · split at h1
      · obtain ⟨x, ps2, k1, k2⟩ := pb_inv h1
        cases k2
        exact hE _ _ _ k1
      · split at h1
        · unfold pChoi at h1
          obtain ⟨x, ps2, k1, k2⟩ := pb_inv h1
          obtain ⟨_, k3⟩ := pNeed_inv k2
          obtain ⟨y, ps3, k4, k5⟩ := pb_inv k3
          obtain ⟨_, k6⟩ := pNeed_inv k5
          obtain ⟨z, ps4, k7, k8⟩ := pb_inv k6
          cases k8
          exact hE _ _ _ k7
        · unfold pLoop at h1
          obtain ⟨x, ps2, k1, k2⟩ := pb_inv h1
          obtain ⟨_, k3⟩ := pNeed_inv k2
          obtain ⟨y, ps3, k4, k5⟩ := pb_inv k3
          have k6 : Q4 tk ps3.1 := hE _ _ _ k4
          cases k5
          exact k6
theorem endq_et {ty pat E e3 e4 : PA TR} {b : Nat} : ∀ (M : Nat) (e : TR) (ps : PS) (v : TR) (ps' : PS), pEt tk 0 ty pat E e3 e4 b M e ps = some (.inl (v, ps')) → Q4 tk ps'.1 := by
  intro M
  induction M with
  | zero => intro e ps v ps' h; cases h
  | succ M ih =>
    intro e ps v ps' h
    unfold pEt at h
    split at h
    · obtain ⟨x, ps2, k1, k2⟩ := pb_inv h
      exact ih _ _ _ _ k2
    · next h40 =>
      split at h
      · obtain ⟨x, ps2, k1, k2⟩ := pb_inv h
        exact ih _ _ _ _ k2
      · next h3 =>
        split at h
        · obtain ⟨x, ps2, k1, k2⟩ := pb_inv h
          exact ih _ _ _ _ k2
        · next h24 =>
          split at h
          · obtain ⟨_, h⟩ := pAdv_inv (pEnter_inv h)
            obtain ⟨l, ps2, k1, k2⟩ := pb_inv h
            exact ih _ _ _ _ k2
          · next h13 =>
            cases h
            have d3 : decide ((0 : Int32) ≤ 3) = true := by decide
            have d2 : decide ((0 : Int32) ≤ 2) = true := by decide
            have d1 : decide ((0 : Int32) ≤ 1) = true := by decide
            rw [d3, Bool.true_and] at h3
            rw [d2, Bool.true_and] at h24
            rw [d1, Bool.true_and] at h13
            exact ⟨by simpa using h40, by simpa using h3, by simpa using h24, by simpa using h13⟩
theorem endq_e0 {ty pat E inf : PA TR} (hE : EndQ tk E) : EndQ tk (pE0 tk ty pat E inf) := by
  refine EndQ.gE ?_
  intro ps v ps' h
  dsimp only at h
  split at h
  · exact endq_form hE _ _ _ h
  · obtain ⟨x, ps2, k1, k2⟩ := pb_inv h
    exact endq_et LF _ _ _ _ k2
theorem endq_ED : ∀ n, EndQ tk (pED n tk).1 := by
  intro n
  cases n with
  | zero => intro ps v ps' h; cases h
  | succ n =>
    induction n with
    | zero => exact endq_e0 (fun ps v ps' h => by cases h)
    | succ n ih => exact endq_e0 ih
end PEN
