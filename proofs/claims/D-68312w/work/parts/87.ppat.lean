/-! the parser: names, brackets, elements, operators, patterns -/
def pIdent (tk : TK) (k : Int32) (q : Bool) : PA TR := fun ps =>
  if sg tk ps.1 22 = true then
    (if sg tk (ps.1 + 1) 45 = true then (if q then pflt 6 (ps.1 + 1, ps.2) else some (.inl ((k, .int 6, no, no, nI ps.1), (ps.1 + 1 + 1, ps.2))))
     else if nmB tk (ps.1 + 1) = true then some (.inl ((k, .int (vAt tk (ps.1 + 1)), no, no, nI ps.1), (ps.1 + 1 + 1, ps.2))) else pflt 1 (ps.1 + 1, ps.2))
  else if kAt tk ps.1 = 5 then some (.inl ((k, no, .int (vAt tk ps.1), no, nI ps.1), (ps.1 + 1, ps.2)))
  else if (nmB tk ps.1 && !oprB tk ps.2.2.2.1 ps.1) = true then some (.inl ((k, .int (vAt tk ps.1), no, no, nI ps.1), (ps.1 + 1, ps.2))) else pflt 1 ps
/-- all of a list one behind the other -/
def tSqL (p : Int32) (l : List TR) : TR := tSq p l.dropLast (l.getLast?.getD (0, no, no, no, 0))
def tBr (q : Bool) (l : List TR) (p : Int32) : TR := if q then tTup 34 33 l p else tTup 13 12 l p
def pBrk (tk : TK) (q : Bool) (inner : PA TR) : PA TR := fun ps =>
  pEnter (pAdv tk fun ps1 => if sg tk ps1.1 34 = true then pNeed tk 34 (pLeave (pret (tBr q [] (nI ps.1)))) ps1
    else pb inner (fun t ps2 => if sg tk ps2.1 39 = true then pb (pSeps tk 39 inner LF) (fun ts => pNeed tk 34 (pLeave (pret (tBr q (t :: ts) (nI ps.1))))) ps2
      else if (sg tk ps2.1 41 && !q) = true then pb (pSeps tk 41 inner LF) (fun ts => pNeed tk 34 (pLeave (pret (tSqL (nI ps.1) (t :: ts))))) ps2
      else pNeed tk 34 (pLeave (pret t)) ps2) ps1) ps
def pElms (tk : TK) (q : Bool) (inner : PA TR) : PA TR := fun ps =>
  pEnter (pAdv tk fun ps1 => pb (fun ps1 => if sg tk ps1.1 36 = true then some (.inl ([], ps1)) else pb inner (fun t => pb (pSeps tk 39 inner LF) fun ts => pret (t :: ts)) ps1) (fun l => pNeed tk 36 (pLeave (pret (tChain q (nI ps.1) l)))) ps1) ps
/-- operators that wait: name, place, fixity; operands: tree, where it begins; the last first -/
abbrev OPS : Type := List (Int32 × Nat × Int32)
abbrev ODS : Type := List (TR × Nat)
def red1 (q : Bool) (o : Int32 × Nat × Int32) (l : ODS) : ODS := match l with
  | (two, _) :: (one, b) :: r => ((if q then (35, .int o.1, no, tv (tPair q one two (nI b)), nI b) else tApp (tName o.1 (nI o.2.1)) (tPair q one two (nI b)) (nI b)), b) :: r
  | l => l
def isFst (mine f : Int32) : Bool := decide ((f - 1) / 2 < (mine - 1) / 2) || (decide ((mine - 1) / 2 = (f - 1) / 2) && decide (mine - mine / 2 * 2 = 1))
/-- operators that bind before one of fixity f; nothing where they don't go together -/
def reds (q : Bool) (f : Int32) : OPS → ODS → Option (OPS × ODS)
  | [], l => some ([], l)
  | o :: ops, l => if (decide ((o.2.2 - 1) / 2 = (f - 1) / 2) && !decide (o.2.2 = f)) = true then none else if isFst o.2.2 f = true then reds q f ops (red1 q o l) else some (o :: ops, l)
def redA (q : Bool) : OPS → ODS → ODS
  | [], l => l
  | o :: ops, l => redA q ops (red1 q o l)
def opB (tk : TK) (q : Bool) (ps : PS) : Bool := oprB tk ps.2.2.2.1 ps.1 || (!q && sg tk ps.1 45 && !decide (fxA ps.2.2.2.1 6 = 0))
def opV (tk : TK) (ps : PS) : Int32 := if kAt tk ps.1 = 1 then 6 else vAt tk ps.1
def odsV (l : ODS) (ps : PS) : PR TR := match l with
  | [(t, _)] => some (.inl (t, ps))
  | _ => none
def pOps (tk : TK) (q : Bool) (opd : PA TR) : Nat → OPS → ODS → PA TR
  | 0, _, _ => fun _ => none
  | m + 1, ops, l => fun ps => if opB tk q ps = true then Option.elim (reds q (fxA ps.2.2.2.1 (opV tk ps)) ops l) (pflt 4 ps)
      fun r => pb opd (fun t => pOps tk q opd m ((opV tk ps, ps.1, fxA ps.2.2.2.1 (opV tk ps)) :: r.1) ((t, ps.1 + 1) :: r.2)) (ps.1 + 1, ps.2)
    else odsV (redA q ops l) ps
def pInf (tk : TK) (q : Bool) (opd : PA TR) : PA TR := fun ps => pb opd (fun t => pOps tk q opd LF [] [(t, ps.1)]) ps
def begP (tk : TK) (ps : PS) : Bool := (nmB tk ps.1 && !oprB tk ps.2.2.2.1 ps.1) || decide (kAt tk ps.1 = 5) || cstB tk ps.1 || sg tk ps.1 22 || sg tk ps.1 43 || sg tk ps.1 37 || sg tk ps.1 33 || sg tk ps.1 35
def isProt (n : Int32) : Bool := decide (0 ≤ n) && decide (n ≤ 4)
def pLayer (tk : TK) (pat : PA TR) (n : Int32) (ty : Option TR) (b : Nat) : PA TR :=
  pEnter fun ps => if isProt n = true then pflt 6 ps else pAdv tk (pb pat fun p => pLeave (pret (37, .int n, ov ty, tv p, nI b))) ps
/-- a field of a record pattern: what it is -/
def tFv (n : Int32) (b : Nat) : Option TR → TR
  | none => tVar n (nI b)
  | some y => (36, tv (tVar n (nI b)), tv y, no, nI b)
def pOty (tk : TK) (ty : PA TR) : PA (Option TR) := fun ps => if sg tk ps.1 40 = true then pb ty (fun t => pret (some t)) (ps.1 + 1, ps.2) else some (.inl (none, ps))
def pFp2 (tk : TK) (pat : PA TR) (l : Int32) (b : Nat) (t : Option TR) : PA TR := fun ps => if sg tk ps.1 4 = true then pLayer tk pat (-1 - l) t b ps else some (.inl (tFv (-1 - l) b t, ps))
def pFpat (tk : TK) (ty pat : PA TR) (l : Int32) (b : Nat) : PA TR := fun ps =>
  if sg tk ps.1 45 = true then pat (ps.1 + 1, ps.2) else if l < 0 then pb (pOty tk ty) (pFp2 tk pat l b) ps else pflt 1 ps
/-- what changes nothing but its place, and may take nothing -/
def grQ {α : Type} (tk : TK) (p : PA α) : PA α := fun ps => match p ps with
  | none => none
  | some (.inr e) => if e.2.2 = ps.2.2.2 then some (.inr e) else none
  | some (.inl (v, ps')) => if ps.1 ≤ ps'.1 ∧ ps'.1 ≤ Tn tk ∧ ps'.2 = ps.2 then some (.inl (v, ps')) else none
def pFps (tk : TK) (ty pat : PA TR) : Nat → List (Int32 × TR) → PA (Bool × List (Int32 × TR))
  | 0, _ => fun _ => none
  | m + 1, acc => fun ps => if sg tk ps.1 42 = true then some (.inl ((true, acc), (ps.1 + 1, ps.2)))
    else if labB tk ps.1 = true then (if acc.any (fun q => decide (q.1 = labV tk ps.1)) = true then pflt 2 ps
      else pb (grQ tk (pFpat tk ty pat (labV tk ps.1) ps.1)) (fun v ps' =>
        let acc' := insF (labV tk ps.1) (34, .int (labV tk ps.1), tv v, no, nI ps.1) acc
        if sg tk ps'.1 39 = true then pFps tk ty pat m acc' (ps'.1 + 1, ps'.2) else some (.inl ((false, acc'), ps'))) (ps.1 + 1, ps.2))
    else pflt 1 ps
def pRecP (tk : TK) (ty pat : PA TR) : PA TR := fun ps =>
  pEnter (pAdv tk fun ps1 => pb (fun ps1 => if sg tk ps1.1 38 = true then some (.inl ((false, []), ps1)) else pFps tk ty pat LF [] ps1) (fun l => pNeed tk 38 (pLeave (pret (33, tLi (l.2.map (·.2)), .int (b2i l.1), no, nI ps.1)))) ps1) ps
def pApat (tk : TK) (ty pat : PA TR) : PA TR := grT tk fun ps =>
  if cstB tk ps.1 = true then some (.inl ((31, .int (vAt tk ps.1), no, no, nI ps.1), (ps.1 + 1, ps.2)))
  else if (!decide (kAt tk ps.1 = 1) || sg tk ps.1 22) = true then pIdent tk 32 true ps
  else if vAt tk ps.1 = 43 then some (.inl (tWild (nI ps.1), (ps.1 + 1, ps.2)))
  else if vAt tk ps.1 = 37 then pRecP tk ty pat ps
  else if vAt tk ps.1 = 33 then pBrk tk true pat ps
  else if vAt tk ps.1 = 35 then pElms tk true pat ps
  else pflt 1 ps
def pAppl (tk : TK) (ty pat : PA TR) : PA TR := grT tk fun ps =>
  pb (pApat tk ty pat) (fun p ps' => if ((sg tk ps.1 22 || nmB tk ps.1 || decide (kAt tk ps.1 = 5)) && begP tk ps') = true then (match vI p.2.1, vI p.2.2.1 with
      | some a, some b => pb (pApat tk ty pat) (fun o => pret (35, .int a, .int b, tv o, nI ps.1)) ps'
      | _, _ => none)
    else some (.inl (p, ps'))) ps
def pCols (tk : TK) (ty : PA TR) : Nat → PA (List TR)
  | 0 => fun _ => none
  | m + 1 => fun ps => if sg tk ps.1 40 = true then pb ty (fun t => pb (pCols tk ty m) fun ts => pret (t :: ts)) (ps.1 + 1, ps.2) else some (.inl ([], ps))
def tTyd (k : Int32) (b : Nat) (t : TR) (ts : List TR) : TR := ts.foldl (fun p y => (k, tv p, tv y, no, nI b)) t
def patN (t : TR) : Int32 := (vI t.2.1).getD 0
def patV (tk : TK) (b a : Nat) (t : TR) : Bool := decide (t.1 = 32) && decide (0 ≤ patN t) && decide (a = b + (if sg tk b 22 = true then 2 else 1))
def pPat (tk : TK) (ty pat : PA TR) : PA TR := grT tk fun ps =>
  pb (grT tk (pInf tk true (pAppl tk ty pat))) (fun t ps1 => if t.1 = 32 ∧ vI t.2.1 = none then none else pb (pCols tk ty LF) (fun ts ps2 =>
    if sg tk ps2.1 4 = true then (if (patV tk ps.1 ps1.1 t && decide (ts.length < 2)) = true then pLayer tk pat (patN t) ts.head? ps.1 ps2 else pflt 1 ps2)
    else some (.inl (tTyd 36 ps.1 t ts, ps2))) ps1) ps
def pPt : Nat → TK → PA TR
  | 0, _ => fun _ => none
  | n + 1, tk => pPat tk (pTy 40 tk) (pPt n tk)
