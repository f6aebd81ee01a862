/-! what calls are asked on each side -/
def ARX (rec : RC) (arc : ARC) : Prop := AR scX rec arc ∧ ∀ xs σ r σ', rec 21 xs σ = some (r, σ') → σ'.2.2.1 13 = σ.2.2.1 13
def ARM (rec : RC) (arc : ARC) : Prop := AR scM rec arc ∧ ∀ xs σ r σ', rec 16 xs σ = some (r, σ') → σ'.2.2.1 17 = σ.2.2.1 17
theorem sr_getD {c : SC} : ∀ {l : List SX} {l' : List ZX} {n : Nat}, F2 (SR c) l l' → SR c (l.getD n sSkip) (l'.getD n zSkip) := by
  intro l
  induction l with
  | nil => intro l' n h; cases l' with | nil => exact sr_skip | cons b t => exact h.elim
  | cons a l ih =>
    intro l' n h
    cases l' with
    | nil => exact h.elim
    | cons b l' => cases n with
      | zero => exact h.1
      | succ n => exact ih h.2
