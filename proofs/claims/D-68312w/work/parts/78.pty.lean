/-! the parser of types -/
abbrev LF : Nat := 3001
def Tn (tk : TK) : Nat := tk.1.length
/-- what reads and changes nothing but its place -/
def grT {α : Type} (tk : TK) (p : PA α) : PA α := fun ps => match p ps with
  | none => none
  | some (.inr e) => if e.2.2 = ps.2.2.2 then some (.inr e) else none
  | some (.inl (v, ps')) => if ps.1 < ps'.1 ∧ ps'.1 ≤ Tn tk ∧ ps'.2 = ps.2 then some (.inl (v, ps')) else none
/-- the same of lists: each item takes something -/
def grL {α : Type} (tk : TK) (p : PA (List α)) : PA (List α) := fun ps => match p ps with
  | none => none
  | some (.inr e) => if e.2.2 = ps.2.2.2 then some (.inr e) else none
  | some (.inl (v, ps')) => if ps.1 + v.length ≤ ps'.1 ∧ ps'.1 ≤ Tn tk ∧ ps'.2 = ps.2 then some (.inl (v, ps')) else none
def pAdv {α : Type} (tk : TK) (p : PA α) : PA α := fun ps => if ps.1 < Tn tk then p (ps.1 + 1, ps.2) else none
def pEnter {α : Type} (p : PA α) : PA α := fun ps => if ps.2.1 < 32 then p (ps.1, ps.2.1 + 1, ps.2.2) else pflt 5 ps
def pLeave {α : Type} (p : PA α) : PA α := fun ps => p (ps.1, ps.2.1 - 1, ps.2.2)
def pNeed {α : Type} (tk : TK) (s : Int32) (p : PA α) : PA α := fun ps => if sg tk ps.1 s = true then p (ps.1 + 1, ps.2) else pflt 1 ps
def pTV (tk : TK) : PA TR := grT tk fun ps => if kAt tk ps.1 = 4 then some (.inl ((50, .int (vAt tk ps.1), no, no, nI ps.1), (ps.1 + 1, ps.2))) else pflt 1 ps
def pTyc (tk : TK) (a : V) (b : Nat) : PA TR := grT tk fun ps => if tycB tk ps.1 = true then some (.inl ((53, a, .int (if kAt tk ps.1 = 5 then -1 else vAt tk ps.1), .int (if kAt tk ps.1 = 5 then vAt tk ps.1 else -1), nI b), (ps.1 + 1, ps.2))) else pflt 1 ps
def pTycs (tk : TK) (b : Nat) : Nat → TR → PA TR
  | 0, _ => fun _ => none
  | m + 1, t => fun ps => if tycB tk ps.1 = true then pb (pTyc tk (tLi [t]) b) (fun t' => pTycs tk b m t') ps else some (.inl (t, ps))
/-- labels -/
def labB (tk : TK) (i : Nat) : Bool := (decide (kAt tk i = 6) && decide (0 < nAt tk i)) || nmB tk i
def labV (tk : TK) (i : Nat) : Int32 := if kAt tk i = 6 then nAt tk i else -1 - vAt tk i
def isBef (l o : Int32) : Bool := if 0 < l then decide (o < 0) || decide (l < o) else decide (o < 0) && decide (o < l)
/-- a field goes behind the last one that it does not stand before -/
def insF (l : Int32) (t : TR) : List (Int32 × TR) → List (Int32 × TR)
  | [] => [(l, t)]
  | x :: r => if (x :: r).all (fun q => isBef l q.1) = true then (l, t) :: x :: r else x :: insF l t r
/-- fields: label, sign, value -/
def pFlds (tk : TK) (fk s : Int32) (val : PA TR) : Nat → List (Int32 × TR) → PA (List (Int32 × TR))
  | 0, _ => fun _ => none
  | m + 1, acc => fun ps => if labB tk ps.1 = true then (if acc.any (fun q => decide (q.1 = labV tk ps.1)) = true then pflt 2 ps
      else pNeed tk s (pb val fun v => fun ps' =>
        let acc' := insF (labV tk ps.1) (fk, .int (labV tk ps.1), tv v, no, nI ps.1) acc
        if sg tk ps'.1 39 = true then pFlds tk fk s val m acc' (ps'.1 + 1, ps'.2) else some (.inl (acc', ps'))) (ps.1 + 1, ps.2))
    else pflt 1 ps
def pRecT (tk : TK) (fk s k : Int32) (val : PA TR) : PA TR := grT tk fun ps =>
  pEnter (pAdv tk fun ps1 => pb (fun ps1 => if sg tk ps1.1 38 = true then some (.inl ([], ps1)) else pFlds tk fk s val LF [] ps1) (fun l => pNeed tk 38 (pLeave fun ps2 => some (.inl ((k, tLi (l.map (·.2)), no, no, nI ps.1), ps2)))) ps1) ps
def pSeps (tk : TK) (s : Int32) (p : PA TR) : Nat → PA (List TR)
  | 0 => fun _ => none
  | m + 1 => fun ps => if sg tk ps.1 s = true then pb p (fun t => pb (pSeps tk s p m) fun ts => pret (t :: ts)) (ps.1 + 1, ps.2) else some (.inl ([], ps))
def pBrT (tk : TK) (ty : PA TR) : PA TR := grT tk fun ps =>
  pEnter (pAdv tk (pb ty fun t => pb (pSeps tk 39 ty LF) fun ts => pNeed tk 34 (pLeave fun ps2 => if ts = [] then some (.inl (t, ps2)) else pTyc tk (tLi (t :: ts)) ps.1 ps2))) ps
def pCon (tk : TK) (ty : PA TR) : PA TR := grT tk fun ps =>
  pb (if kAt tk ps.1 = 4 then pTV tk else if sg tk ps.1 37 = true then pRecT tk 52 40 51 ty else if sg tk ps.1 33 = true then pBrT tk ty else pTyc tk no ps.1) (fun t => pTycs tk ps.1 LF t) ps
def pStars (tk : TK) (ty : PA TR) : Nat → PA (List TR)
  | 0 => fun _ => none
  | m + 1 => fun ps => if kAt tk ps.1 = 3 ∧ vAt tk ps.1 = 7 then pb (pCon tk ty) (fun t => pb (pStars tk ty m) fun ts => pret (t :: ts)) (ps.1 + 1, ps.2) else some (.inl ([], ps))
def pProd (tk : TK) (ty : PA TR) : PA TR := grT tk fun ps =>
  pb (pCon tk ty) (fun t => pb (pStars tk ty LF) fun ts => pret (if ts = [] then t else tTup 52 51 (t :: ts) (nI ps.1))) ps
def pArrs (tk : TK) (ty : PA TR) : Nat → PA (List (TR × Nat))
  | 0 => fun _ => none
  | m + 1 => fun ps => pb (pProd tk ty) (fun t ps' => if sg tk ps'.1 47 = true then pb (pArrs tk ty m) (fun l => pret ((t, ps.1) :: l)) (ps'.1 + 1, ps'.2) else some (.inl ([(t, ps.1)], ps'))) ps
/-- arrows, from the right -/
def tArr : List (TR × Nat) → TR
  | [] => (0, no, no, no, 0)
  | [(t, _)] => t
  | (t, b) :: l => (54, tv t, tv (tArr l), no, nI b)
def pTy : Nat → TK → PA TR
  | 0, _ => fun _ => none
  | n + 1, tk => grT tk (pb (pArrs tk (pTy n tk) LF) fun l => pret (tArr l))
theorem grT_ok {α : Type} {tk : TK} {p : PA α} {ps ps' : PS} {v : α} (h : grT tk p ps = some (.inl (v, ps'))) : p ps = some (.inl (v, ps')) ∧ ps.1 < ps'.1 ∧ ps'.1 ≤ Tn tk ∧ ps'.2 = ps.2 := by
  unfold grT at h
  split at h
  · cases h
  · split at h <;> cases h
  · split at h
    · next e q =>
      have h := Option.some.inj h
      have h := Sum.inl.inj h
      obtain ⟨rfl, rfl⟩ := h
      exact ⟨e, q⟩
    · cases h
theorem grL_ok {α : Type} {tk : TK} {p : PA (List α)} {ps ps' : PS} {v : List α} (h : grL tk p ps = some (.inl (v, ps'))) : p ps = some (.inl (v, ps')) ∧ ps.1 + v.length ≤ ps'.1 ∧ ps'.1 ≤ Tn tk ∧ ps'.2 = ps.2 := by
  unfold grL at h
  split at h
  · cases h
  · split at h <;> cases h
  · split at h
    · next e q =>
      have h := Option.some.inj h
      have h := Sum.inl.inj h
      obtain ⟨rfl, rfl⟩ := h
      exact ⟨e, q⟩
    · cases h
