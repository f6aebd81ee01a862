/-! contracts of X over the parser -/
/-- what may differ behind a method that returns -/
def je (W : Bool) (j j' : AS) : Prop := j'.fl = j.fl ∧ ∀ k, (k = 21 → W = true) → j'.1 k = j.1 k
theorem je.rf {W : Bool} (j : AS) : je W j j := ⟨rfl, fun _ _ => rfl⟩
theorem je.trans {W : Bool} {a b c : AS} (h : je W a b) (h' : je W b c) : je W a c := ⟨h'.1.trans h.1, fun k hk => (h'.2 k hk).trans (h.2 k hk)⟩
theorem je.mk {W : Bool} {a b : AS} (h : je W a b) (n : Nat) : je W a (mkN b n) := h
def THX (tk : TK) (j : AS) (e : FT) (A : AS) : Prop := A.1 19 = e.1 ∧ A.1 20 = nI e.2.1 ∧ A.1 22 = j.1 22 ∧ A.fl + 1 = j.fl ∧ A.R 0 = ints tk.1 ∧ A.R 1 = ints tk.2.1 ∧ A.R 2 = ints tk.2.2 ∧ A.R 10 = ints e.2.2.1 ∧ A.R 11 = ints e.2.2.2.1 ∧ A.R 12 = ints e.2.2.2.2 ∧ ∀ k, k < 13 → A.of k = 0
def CTx {α : Type} (W : Bool) (em : α → V) (tk : TK) (f : FX) (j : AS) (B : Nat) (r : Option (Option V × AS)) (q : PR α) : Prop := match q with
  | none => True
  | some (.inl (v, ps')) => ∃ j', r = some (some (em v), stX tk ps' f j') ∧ je W j j' ∧ j'.nn + 100 * (Tn tk - ps'.1) ≤ B
  | some (.inr e) => ∃ A', r = some (none, A') ∧ THX tk j e A'
def fS (f : FX) : Nat := f.1.1 + f.1.2.length + f.2.1.1 + f.2.1.2.length + f.2.2.1 + f.2.2.2.length
def psOK (q : List Int32 × List Int32 × List Int32) : Prop := q.1.length = 8192 ∧ (∀ x ∈ q.1, 0 ≤ x ∧ x ≤ 20) ∧ q.2.1.length = q.2.2.length ∧ (∀ x ∈ q.2.1, 0 ≤ x ∧ x ≤ 8191) ∧ ∀ x ∈ q.2.2, 0 ≤ x ∧ x ≤ 20
def PRX (tk : TK) (ps : PS) (f : FX) (j : AS) (k : Nat) : Prop := tkOK tk ∧ psOK ps.2.2.2 ∧ ps.1 ≤ Tn tk ∧ ps.2.1 ≤ 32 ∧ ps.2.2.1 + ps.2.2.2.2.1.length + 100 * (Tn tk - ps.1) ≤ 25000 ∧ 1 ≤ j.fl ∧ fS f + j.nn + 8 * k + 100 * (Tn tk - ps.1) ≤ 29000
section CXS
variable {α β : Type} {em : α → V} {em2 : β → V} {tk : TK} {f f1 : FX} {j j1 : AS} {B B1 : Nat} {r : Option (Option V × AS)} {ps : PS} {W : Bool}
theorem ctx_bind {p : PA α} {F : α → PA β} {g : V → AS → Option (Option V × AS)} (hj : je W j j1) (h : CTx W em tk f1 j1 B1 r (p ps))
    (hk : ∀ v ps' j', p ps = some (.inl (v, ps')) → je W j j' → j'.nn + 100 * (Tn tk - ps'.1) ≤ B1 → CTx W em2 tk f j B (g (em v) (stX tk ps' f1 j')) (F v ps')) : CTx W em2 tk f j B (ab r g) (pb p F ps) := by
  unfold pb
  cases hp : p ps with
  | none => exact trivial
  | some q =>
    rw [hp] at h
    match q, hp, h with
    | .inr e, _, h =>
      obtain ⟨A', e1, q1, q2, q3, q4, q5⟩ := h
      subst e1
      exact ⟨A', rfl, q1, q2, q3.trans (hj.2 22 (fun h => absurd h (by decide))), q4.trans hj.1, q5⟩
    | .inl (v, ps'), hp, h =>
      obtain ⟨j', e1, q1, q2⟩ := h
      subst e1
      exact hk v ps' j' hp (hj.trans q1) q2
theorem ctx_ret {v : α} {j' : AS} (hj : je W j j') (hB : j'.nn + 100 * (Tn tk - ps.1) ≤ B) : CTx W em tk f j B (some (some (em v), stX tk ps f j')) (some (.inl (v, ps))) := ⟨j', rfl, hj, hB⟩
theorem ctx_flt {k : Int32} (hj : je W j j1) (hf : 1 ≤ j1.fl) : CTx W em tk f j B (some (none, ftX (stX tk ps f1 j1) k)) (pflt k ps) := by
  refine ⟨_, rfl, rfl, rfl, ?_, ?_, rfl, rfl, rfl, rfl, rfl, rfl, fun k hk => ?_⟩
  · exact hj.2 22 (fun h => absurd h (by decide))
  · show j1.fl - 1 + 1 = j.fl
    rw [← hj.1]
    omega
  · show (if k = 13 then _ else if k = 14 then _ else if k = 15 then _ else if k < 13 then 0 else _) = 0
    rw [if_neg (by omega), if_neg (by omega), if_neg (by omega), if_pos hk]
theorem ctx_grT {p : PA α} (h : CTx W em tk f j B r (p ps)) : CTx W em tk f j B r (grT tk p ps) := by
  unfold grT
  cases hp : p ps with
  | none => exact trivial
  | some q =>
    rw [hp] at h
    match q, h with
    | .inr e, h =>
      dsimp only
      split
      · exact h
      · exact trivial
    | .inl (v, ps'), h =>
      dsimp only
      split
      · exact h
      · exact trivial
theorem ctx_grL {em : List α → V} {p : PA (List α)} (h : CTx W em tk f j B r (p ps)) : CTx W em tk f j B r (grL tk p ps) := by
  unfold grL
  cases hp : p ps with
  | none => exact trivial
  | some q =>
    rw [hp] at h
    match q, h with
    | .inr e, h =>
      dsimp only
      split
      · exact h
      · exact trivial
    | .inl (v, ps'), h =>
      dsimp only
      split
      · exact h
      · exact trivial
/-- behind something that changes its place alone -/
theorem ctx_bindT {p : PA α} {F : α → PA β} {g : V → AS → Option (Option V × AS)} (hj : je W j j1) (h : CTx W em tk f1 j1 B1 r (grT tk p ps))
    (hk : ∀ v a j', ps.1 < a → a ≤ Tn tk → je W j j' → j'.nn + 100 * (Tn tk - a) ≤ B1 → CTx W em2 tk f j B (g (em v) (stX tk (a, ps.2) f1 j')) (F v (a, ps.2))) : CTx W em2 tk f j B (ab r g) (pb (grT tk p) F ps) := by
  refine ctx_bind hj h fun v ps' j' hp hj' hB => ?_
  obtain ⟨_, h1, h2, h3⟩ := grT_ok hp
  have e : ps' = (ps'.1, ps.2) := Prod.ext rfl h3
  rw [e]
  exact hk v ps'.1 j' h1 h2 hj' hB
end CXS
