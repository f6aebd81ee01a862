/-! the parser: fixities, expressions, declarations -/
/-- a step forward is asked for -/
noncomputable def grE {α : Type} (tk : TK) (p : PA α) : PA α := fun ps => match p ps with
  | none => none
  | some (.inr e) => some (.inr e)
  | some (.inl (v, ps')) => @ite _ (PG tk ps ps') (Classical.propDecidable _) (some (.inl (v, ps'))) none
noncomputable def grD {α : Type} (tk : TK) (p : PA α) : PA α := fun ps => match p ps with
  | none => none
  | some (.inr e) => some (.inr e)
  | some (.inl (v, ps')) => @ite _ (PGe tk ps ps') (Classical.propDecidable _) (some (.inl (v, ps'))) none
theorem grE_ok {α : Type} {tk : TK} {p : PA α} {ps ps' : PS} {v : α} (h : grE tk p ps = some (.inl (v, ps'))) : PG tk ps ps' := by
  unfold grE at h
  split at h
  · cases h
  · cases h
  · split at h
    · next e q =>
      have h := Option.some.inj h
      have h := Sum.inl.inj h
      obtain ⟨rfl, rfl⟩ := h
      exact q
    · cases h
theorem grD_ok {α : Type} {tk : TK} {p : PA α} {ps ps' : PS} {v : α} (h : grD tk p ps = some (.inl (v, ps'))) : PGe tk ps ps' := by
  unfold grD at h
  split at h
  · cases h
  · cases h
  · split at h
    · next e q =>
      have h := Option.some.inj h
      have h := Sum.inl.inj h
      obtain ⟨rfl, rfl⟩ := h
      exact q
    · cases h
/-- fixities: a name gets one, some are taken back, some are kept -/
abbrev FXS : Type := List Int32 × List Int32 × List Int32
def fxCh (n v : Int32) (q : FXS) : FXS := (q.1.set n.toNatClampNeg v, q.2.1 ++ [n], q.2.2 ++ [fxA q.1 n])
def fxBk (mark : Nat) (q : FXS) : FXS := (((q.2.1.drop mark).zip (q.2.2.drop mark)).foldr (fun c fx => fx.set c.1.toNatClampNeg c.2) q.1, q.2.1.take mark, q.2.2.take mark)
def fxFg (mark middle : Nat) (q : FXS) : FXS := ((q.2.1.drop middle).map fun n => (n, fxA q.1 n)).foldl (fun q c => fxCh c.1 c.2 q) (fxBk mark q)
def psFx (ps : PS) (q : FXS) : PS := (ps.1, ps.2.1, ps.2.2.1, q)
/-- things with a sign between -/
def pMore {α : Type} (tk : TK) (s : Int32) (p : PA α) : Nat → PA (List α)
  | 0 => fun _ => none
  | m + 1 => pb p fun t ps' => if sg tk ps'.1 s = true then pb (pMore tk s p m) (fun l => pret (t :: l)) (ps'.1 + 1, ps'.2) else some (.inl ([t], ps'))
/-- rules -/
def pRul (tk : TK) (pat E : PA TR) : PA TR := fun ps => pb pat (fun p => pNeed tk 46 (pb E fun e => pret (tRule p e (nI ps.1)))) ps
noncomputable def pMch (tk : TK) (pat E : PA TR) : PA (List TR) := grE tk (pMore tk 44 (pRul tk pat E) LF)
def fmB (tk : TK) (i : Nat) : Bool := sg tk i 25 || sg tk i 14 || sg tk i 32 || sg tk i 5 || sg tk i 11
noncomputable def pCase (tk : TK) (pat E : PA TR) (b : Nat) : PA TR := pb E fun e => pNeed tk 21 (pb (pMch tk pat E) fun l => pret (tApp (tFn (tLi l) (nI b)) e (nI b)))
def pChoi (tk : TK) (E : PA TR) (b : Nat) : PA TR := pb E fun t => pNeed tk 27 (pb E fun y => pNeed tk 8 (pb E fun n => pret (tChoose t y n (nI b))))
def pLoop (tk : TK) (E : PA TR) (b : Nat) : PA TR := pb E fun t => pNeed tk 7 (pb E fun e ps => some (.inl (tLoop (nI (8192 + ps.2.2.1)) t e (nI b), (ps.1, ps.2.1, ps.2.2.1 + 1, ps.2.2.2))))
noncomputable def pForm (tk : TK) (pat E : PA TR) : PA TR := fun ps =>
  pEnter (pAdv tk (pb (grE tk (if vAt tk ps.1 = 11 then pb (pMch tk pat E) (fun l => pret (tFn (tLi l) (nI ps.1))) else if vAt tk ps.1 = 5 then pCase tk pat E ps.1
    else if vAt tk ps.1 = 25 then pb E (fun e => pret (18, tv e, no, no, nI ps.1)) else if vAt tk ps.1 = 14 then pChoi tk E ps.1 else pLoop tk E ps.1)) fun t => pLeave (pret t))) ps
/-- behind an operand: types, andalso, orelse, handle, as far as the level goes -/
noncomputable def pEt (tk : TK) (lv : Int32) (ty pat E e3 e4 : PA TR) (b : Nat) : Nat → TR → PA TR
  | 0, _ => fun _ => none
  | m + 1, e => fun ps => if sg tk ps.1 40 = true then pb ty (fun t => pEt tk lv ty pat E e3 e4 b m (16, tv e, tv t, no, nI b)) (ps.1 + 1, ps.2)
    else if (decide (lv ≤ 3) && sg tk ps.1 3) = true then pb e4 (fun y => pEt tk lv ty pat E e3 e4 b m (tChoose e y (tName 1 (nI b)) (nI b))) (ps.1 + 1, ps.2)
    else if (decide (lv ≤ 2) && sg tk ps.1 24) = true then pb e3 (fun y => pEt tk lv ty pat E e3 e4 b m (tChoose e (tName 0 (nI b)) y (nI b))) (ps.1 + 1, ps.2)
    else if (decide (lv ≤ 1) && sg tk ps.1 13) = true then pEnter (pAdv tk (pb (pMch tk pat E) fun l => pLeave (pEt tk lv ty pat E e3 e4 b m (17, tv e, tLi l, no, nI b)))) ps
    else some (.inl (e, ps))
noncomputable def pEl (tk : TK) (lv : Int32) (ty pat E inf e3 e4 : PA TR) : PA TR := grE tk fun ps =>
  if fmB tk ps.1 = true then pForm tk pat E ps else pb (grE tk inf) (fun e => pEt tk lv ty pat E e3 e4 ps.1 LF e) ps
noncomputable def pE0 (tk : TK) (ty pat E inf : PA TR) : PA TR :=
  let e4 := pEl tk 4 ty pat E inf (fun _ => none) (fun _ => none)
  let e3 := pEl tk 3 ty pat E inf (fun _ => none) e4
  pEl tk 0 ty pat E inf e3 e4
def begA (tk : TK) (ps : PS) : Bool := (nmB tk ps.1 && !oprB tk ps.2.2.2.1 ps.1) || decide (kAt tk ps.1 = 5) || cstB tk ps.1 || sg tk ps.1 22 || sg tk ps.1 37 || sg tk ps.1 48 || sg tk ps.1 33 || sg tk ps.1 35 || sg tk ps.1 18
def pApps (tk : TK) (atom : PA TR) (b : Nat) : Nat → TR → PA TR
  | 0, _ => fun _ => none
  | m + 1, t => fun ps => if begA tk ps = true then pb atom (fun a => pApps tk atom b m (tApp t a (nI b))) ps else some (.inl (t, ps))
noncomputable def pApp (tk : TK) (atom : PA TR) : PA TR := grE tk fun ps => pb atom (fun t => pApps tk atom ps.1 LF t) ps
def pRecE (tk : TK) (E : PA TR) : PA TR := fun ps =>
  pEnter (pAdv tk fun ps1 => pb (fun ps1 => if sg tk ps1.1 38 = true then some (.inl ([], ps1)) else pFlds tk 13 45 E LF [] ps1) (fun l => pNeed tk 38 (pLeave fun ps2 => some (.inl ((12, tLi (l.map (·.2)), no, no, nI ps.1), ps2)))) ps1) ps
def tSel (l v p : Int32) : TR := tLam (33, tLi [(34, .int l, tv (tVar v p), no, p)], .int 1, no, p) (tName v p) p
def pSel (tk : TK) : PA TR := fun ps => pAdv tk (fun ps1 => if labB tk ps1.1 = true then some (.inl (tSel (labV tk ps1.1) (nI (8192 + ps1.2.2.1)) (nI ps.1), (ps1.1 + 1, ps1.2.1, ps1.2.2.1 + 1, ps1.2.2.2))) else pflt 1 ps1) ps
def pLet (tk : TK) (E D : PA TR) : PA TR := fun ps =>
  pEnter (pAdv tk (pb D fun d => pNeed tk 15 (pb E fun e => pb (pSeps tk 41 E LF) fun es => pNeed tk 9 (pLeave fun ps2 => some (.inl ((14, tv d, tv (tSqL (nI ps.1) (e :: es)), no, nI ps.1), psFx ps2 (fxBk ps.2.2.2.2.1.length ps2.2.2.2))))))) ps
noncomputable def pAtom (tk : TK) (E D : PA TR) : PA TR := grE tk fun ps =>
  if cstB tk ps.1 = true then some (.inl ((10, .int (vAt tk ps.1), no, no, nI ps.1), (ps.1 + 1, ps.2)))
  else if (!decide (kAt tk ps.1 = 1) || sg tk ps.1 22) = true then pIdent tk 11 false ps
  else if vAt tk ps.1 = 37 then pRecE tk E ps
  else if vAt tk ps.1 = 48 then pSel tk ps
  else if vAt tk ps.1 = 33 then pBrk tk false E ps
  else if vAt tk ps.1 = 35 then pElms tk false E ps
  else if vAt tk ps.1 = 18 then pLet tk E D ps
  else pflt 1 ps
/-- type variables, none, one or some -/
noncomputable def pTvs (tk : TK) (q : Bool) : PA (List TR) := grD tk fun ps =>
  if kAt tk ps.1 = 4 then pb (pTV tk) (fun t => pret [t]) ps
  else if (!sg tk ps.1 33 || (q && !decide (kAt tk (ps.1 + 1) = 4))) = true then some (.inl ([], ps))
  else pAdv tk (pb (pTV tk) fun t => pb (pSeps tk 39 (pTV tk) LF) fun ts => pNeed tk 34 (pret (t :: ts))) ps
def begD (tk : TK) (i : Nat) : Bool := sg tk i 29 || sg tk i 12 || sg tk i 28 || sg tk i 6 || sg tk i 1 || sg tk i 10 || sg tk i 19 || sg tk i 23 || sg tk i 16 || sg tk i 17 || sg tk i 20
def pRecs (tk : TK) : Nat → Bool → PA Bool
  | 0, _ => fun _ => none
  | m + 1, r => fun ps => if sg tk ps.1 26 = true then pRecs tk m true (ps.1 + 1, ps.2) else some (.inl (r, ps))
def pVals (tk : TK) (pat E : PA TR) : Nat → Bool → PA (List TR)
  | 0, _ => fun _ => none
  | m + 1, r => pb (pRecs tk LF r) fun r' ps => pb pat (fun p => pNeed tk 45 (pb E fun e ps' =>
      if sg tk ps'.1 2 = true then pb (pVals tk pat E m r') (fun l => pret ((71, tv p, tv e, .int (b2i r'), nI ps.1) :: l)) (ps'.1 + 1, ps'.2) else some (.inl ([(71, tv p, tv e, .int (b2i r'), nI ps.1)], ps')))) ps
noncomputable def pValD (tk : TK) (pat E : PA TR) (b : Nat) : PA TR := pb (pTvs tk true) fun vs => pb (pVals tk pat E LF false) fun l => pret (70, tLi vs, tLi l, no, nI b)
def pShT (tk : TK) : PA Int32 := fun ps => if (tycB tk ps.1 && !decide (kAt tk ps.1 = 5)) = true then some (.inl (vAt tk ps.1, (ps.1 + 1, ps.2))) else pflt 1 ps
noncomputable def pTb1 (tk : TK) (ty : PA TR) : PA TR := fun ps => pb (pTvs tk false) (fun vs => pb (pShT tk) fun n => pNeed tk 45 (pb ty fun t => pret (73, tLi vs, .int n, tv t, nI ps.1))) ps
noncomputable def pTbs (tk : TK) (ty : PA TR) : PA (List TR) := grE tk (pMore tk 2 (pTb1 tk ty) LF)
def pNew (tk : TK) : PA Int32 := fun ps => (fun q : PS => if (sg tk ps.1 22 && sg tk q.1 45) = true then pflt 6 q else if nmB tk q.1 = false then pflt 1 q
  else if (isProt (vAt tk q.1) || decide (vAt tk q.1 = 5)) = true then pflt 6 q else some (.inl (vAt tk q.1, (q.1 + 1, q.2)))) (if sg tk ps.1 22 = true then (ps.1 + 1, ps.2) else ps)
noncomputable def pOf (tk : TK) (ty : PA TR) : PA (Option TR) := grD tk fun ps => if sg tk ps.1 21 = true then pb ty (fun t => pret (some t)) (ps.1 + 1, ps.2) else some (.inl (none, ps))
noncomputable def pCon1 (tk : TK) (ty : PA TR) : PA TR := fun ps => pb (pNew tk) (fun n => pb (pOf tk ty) fun t => pret (76, .int n, ov t, no, nI ps.1)) ps
noncomputable def pCons (tk : TK) (ty : PA TR) : PA (List TR) := grE tk (pMore tk 44 (pCon1 tk ty) LF)
noncomputable def pDb1 (tk : TK) (ty : PA TR) : PA TR := fun ps => pb (pTvs tk false) (fun vs => pb (pShT tk) fun n => pNeed tk 45 (pb (pCons tk ty) fun l => pret (75, tLi vs, .int n, tLi l, nI ps.1))) ps
noncomputable def pDbs (tk : TK) (ty : PA TR) (vs : List TR) (n : Int32) (b : Nat) : PA (List TR) := grE tk (pb (pCons tk ty) fun l => pb (pSeps tk 2 (pDb1 tk ty) LF) fun ds => pret ((75, tLi vs, .int n, tLi l, nI b) :: ds))
noncomputable def pWth (tk : TK) (ty : PA TR) : PA (List TR) := grD tk fun ps => if sg tk ps.1 31 = true then pTbs tk ty (ps.1 + 1, ps.2) else some (.inl ([], ps))
def pRepl (tk : TK) (n : Int32) (b : Nat) : PA TR := fun ps => if tycB tk ps.1 = true then some (.inl ((77, .int n, .int (if kAt tk ps.1 = 5 then -1 else vAt tk ps.1), .int (if kAt tk ps.1 = 5 then vAt tk ps.1 else -1), nI b), (ps.1 + 1, ps.2))) else pflt 1 ps
noncomputable def pDat (tk : TK) (ty : PA TR) (b : Nat) : PA TR := fun ps => pb (pTvs tk false) (fun vs => pb (pShT tk) fun n => pNeed tk 45 fun ps2 =>
  if vs = [] ∧ sg tk ps2.1 6 = true then pRepl tk n b (ps2.1 + 1, ps2.2) else pb (pDbs tk ty vs n ps.1) (fun l => pb (pWth tk ty) fun w => pret (74, tLi l, tLi w, no, nI b)) ps2) ps
noncomputable def pAbs (tk : TK) (ty D : PA TR) (b : Nat) : PA TR := fun ps => pb (pTvs tk false) (fun vs => pb (pShT tk) fun n => pNeed tk 45 (pb (pDbs tk ty vs n ps.1) fun l => pb (pWth tk ty) fun w => pNeed tk 30 (pb D fun d => pNeed tk 9 (pLeave (pret (78, tLi l, tLi w, tv d, nI b)))))) ps
noncomputable def pEx1 (tk : TK) (ty : PA TR) : PA TR := fun ps => pb (pNew tk) (fun n ps2 => if sg tk ps2.1 45 = true then pb (grE tk (pIdent tk 11 false)) (fun t ps3 => match vI t.2.1, vI t.2.2.1 with
      | some x, some y => some (.inl ((81, .int n, .int x, .int y, nI ps.1), ps3))
      | _, _ => none) (ps2.1 + 1, ps2.2)
    else pb (pOf tk ty) (fun t => pret (80, .int n, ov t, no, nI ps.1)) ps2) ps
noncomputable def pExs (tk : TK) (ty : PA TR) : PA (List TR) := grE tk (pMore tk 2 (pEx1 tk ty) LF)
def pLoc (tk : TK) (D : PA TR) (b : Nat) : PA TR := fun ps => pb D (fun d => pNeed tk 15 fun ps2 => pb D (fun e => pNeed tk 9 (pLeave fun ps3 => if ps3.2.2.2.2.1.length ≤ 400 then some (.inl ((82, tv d, tv e, no, nI b), psFx ps3 (fxFg ps.2.2.2.2.1.length ps2.2.2.2.2.1.length ps3.2.2.2))) else none)) ps2) ps
def pOpn (tk : TK) : Nat → PA (List TR)
  | 0 => fun _ => none
  | m + 1 => fun ps => if kAt tk ps.1 = 2 ∨ kAt tk ps.1 = 5 then (if kAt tk (ps.1 + 1) = 2 ∨ kAt tk (ps.1 + 1) = 5 then pb (pOpn tk m) (fun l => pret ((11, .int (if kAt tk ps.1 = 5 then -1 else vAt tk ps.1), .int (if kAt tk ps.1 = 5 then vAt tk ps.1 else -1), no, nI ps.1) :: l)) (ps.1 + 1, ps.2)
      else some (.inl ([(11, .int (if kAt tk ps.1 = 5 then -1 else vAt tk ps.1), .int (if kAt tk ps.1 = 5 then vAt tk ps.1 else -1), no, nI ps.1)], (ps.1 + 1, ps.2)))) else pflt 1 ps
def pDirs (tk : TK) (v : Int32) : Nat → PA Unit
  | 0 => fun _ => none
  | m + 1 => fun ps => if nmB tk ps.1 = true then pDirs tk v m (ps.1 + 1, ps.2.1, ps.2.2.1, fxCh (vAt tk ps.1) v ps.2.2.2) else some (.inl ((), ps))
def dgB (tk : TK) (i : Nat) : Bool := decide (kAt tk i = 6) && decide (0 ≤ nAt tk i) && decide (nAt tk i < 10)
def pDir (tk : TK) (s : Int32) : PA Unit := fun ps =>
  (fun (v : Int32) (q : PS) => if nmB tk q.1 = true then pDirs tk v LF q else pflt 1 q)
    (if s = 20 then 0 else 1 + (if dgB tk ps.1 = true then 2 * nAt tk ps.1 else 0) + (if s = 17 then 1 else 0)) (if (!decide (s = 20) && dgB tk ps.1) = true then (ps.1 + 1, ps.2) else ps)
/-- heads of clauses: name and patterns -/
def pArgs (tk : TK) (ap : PA TR) : Nat → PA (List TR)
  | 0 => fun _ => none
  | m + 1 => fun ps => if begP tk ps = true then pb ap (fun t => pb (pArgs tk ap m) fun l => pret (t :: l)) ps else some (.inl ([], ps))
/-- an operator between two patterns in brackets -/
def pTry (tk : TK) (ap : PA TR) : PA (Option (Int32 × TR)) := fun ps =>
  pEnter (pAdv tk fun ps1 => if begP tk ps1 = true then pb ap (fun one ps2 => if oprB tk ps2.2.2.2.1 ps2.1 = true then (fun ps3 : PS => if begP tk ps3 = true then pb ap (fun two ps4 =>
        if (sg tk ps4.1 34 && !oprB tk ps4.2.2.2.1 (ps4.1 + 1)) = true then some (.inl (some (vAt tk ps2.1, tPair true one two (nI ps.1)), (ps4.1 + 1, ps4.2.1 - 1, ps4.2.2)))
        else some (.inl (none, ps))) ps3 else some (.inl (none, ps))) (ps2.1 + 1, ps2.2) else some (.inl (none, ps))) ps1 else some (.inl (none, ps))) ps
def pTrg (tk : TK) (aq ap : PA TR) : PA (Option (Int32 × TR)) := fun ps => match pTry tk aq ps with
  | some (.inr e) => (match ap ps with
    | none => none
    | some _ => some (.inr e))
  | r => r
def pHead (tk : TK) (aq ap : PA TR) : PA (Int32 × List TR) := fun ps =>
  if (sg tk ps.1 22 || (nmB tk ps.1 && !oprB tk ps.2.2.2.1 ps.1 && !oprB tk ps.2.2.2.1 (ps.1 + 1))) = true then
    (fun q : PS => if (sg tk ps.1 22 && sg tk q.1 45) = true then pb ap (fun t => pb (pArgs tk ap LF) fun l => pret (6, t :: l)) (q.1 + 1, q.2)
      else if nmB tk q.1 = true then pb ap (fun t => pb (pArgs tk ap LF) fun l => pret (vAt tk q.1, t :: l)) (q.1 + 1, q.2) else pflt 1 q) (if sg tk ps.1 22 = true then (ps.1 + 1, ps.2) else ps)
  else pb (fun ps => if sg tk ps.1 33 = true then pTrg tk aq ap ps else some (.inl (none, ps))) (fun o => match o with
    | some (n, t) => pb (pArgs tk ap LF) fun l => pret (n, t :: l)
    | none => pb ap fun one ps2 => if oprB tk ps2.2.2.2.1 ps2.1 = true then pb ap (fun two => pret (vAt tk ps2.1, [tPair true one two (nI ps.1)])) (ps2.1 + 1, ps2.2) else pflt 1 ps2) ps
def tMp (l : List TR) (p : Int32) : TR := match l with
  | [t] => t
  | l => tTup 34 33 l p
def tTo (e : TR) (t : Option TR) (b : Nat) : TR := match t with
  | none => e
  | some y => (16, tv e, tv y, no, nI b)
/-- clauses: how the first one was called and how many patterns it had; the rules -/
def pCls (tk : TK) (ty aq ap E : PA TR) : Nat → Option (Int32 × Nat) → PA ((Int32 × Nat) × List TR)
  | 0, _ => fun _ => none
  | m + 1, nm => fun ps => pb (grQ tk (pHead tk aq ap)) (fun h => pb (pOty tk ty) fun t ps2 =>
      if sg tk ps2.1 45 = false then pflt 1 ps2
      else if (decide (h.1 = 6) || isProt h.1) = true then pflt 6 ps2
      else if (match nm with | none => false | some q => !(decide (q.1 = h.1) && decide (q.2 = h.2.length))) = true then pflt 3 ps2
      else pb E (fun e ps4 => if sg tk ps4.1 44 = true then pb (pCls tk ty aq ap E m (some (h.1, h.2.length))) (fun r => pret (r.1, tRule (tMp h.2 (nI ps.1)) (tTo e t (ps2.1 + 1)) (nI ps.1) :: r.2)) (ps4.1 + 1, ps4.2)
        else some (.inl (((h.1, h.2.length), [tRule (tMp h.2 (nI ps.1)) (tTo e t (ps2.1 + 1)) (nI ps.1)]), ps4))) (ps2.1 + 1, ps2.2)) ps
def pClau (tk : TK) (ty aq ap E : PA TR) : PA TR := fun ps => pb (pCls tk ty aq ap E LF none) (fun r ps2 =>
  some (.inl ((71, tv (tVar r.1.1 (nI ps.1)), tv (tCur (tLi r.2) r.1.2 ps2.2.2.1 (nI ps.1)), .int 1, nI ps.1), (ps2.1, ps2.2.1, ps2.2.2.1 + r.1.2, ps2.2.2.2)))) ps
noncomputable def pFun (tk : TK) (ty aq ap E : PA TR) (b : Nat) : PA TR := pb (pTvs tk true) fun vs => pb (pMore tk 2 (grE tk (pClau tk ty aq ap E)) LF) fun l => pret (70, tLi vs, tLi l, no, nI b)
noncomputable def pDec (tk : TK) (ty pat aq ap E D : PA TR) : PA (Option TR) := grE tk fun ps =>
  (fun p : PA (Option TR) => if vAt tk ps.1 = 1 ∨ vAt tk ps.1 = 19 then pEnter (pAdv tk p) ps else pAdv tk p ps)
    (if vAt tk ps.1 = 29 then pb (pValD tk pat E ps.1) (fun t => pret (some t))
     else if vAt tk ps.1 = 12 then pb (pFun tk ty aq ap E ps.1) (fun t => pret (some t))
     else if vAt tk ps.1 = 28 then pb (pTbs tk ty) (fun l => pret (some (72, tLi l, no, no, nI ps.1)))
     else if vAt tk ps.1 = 6 then pb (pDat tk ty ps.1) (fun t => pret (some t))
     else if vAt tk ps.1 = 1 then pb (pAbs tk ty D ps.1) (fun t => pret (some t))
     else if vAt tk ps.1 = 10 then pb (pExs tk ty) (fun l => pret (some (79, tLi l, no, no, nI ps.1)))
     else if vAt tk ps.1 = 19 then pb (pLoc tk D ps.1) (fun t => pret (some t))
     else if vAt tk ps.1 = 23 then pb (grE tk (pOpn tk LF)) (fun l => pret (some (83, tLi l, no, no, nI ps.1)))
     else pb (pDir tk (vAt tk ps.1)) (fun _ => pret none))
def pDcs (tk : TK) (dec : PA (Option TR)) : Nat → PA (List TR)
  | 0 => fun _ => none
  | m + 1 => fun ps => if sg tk ps.1 41 = true then pDcs tk dec m (ps.1 + 1, ps.2) else if begD tk ps.1 = true then pb dec (fun o => pb (pDcs tk dec m) fun l => pret (o.toList ++ l)) ps else some (.inl ([], ps))
noncomputable def pDs (tk : TK) (dec : PA (Option TR)) : PA TR := grD tk fun ps => pb (pDcs tk dec LF) (fun l => pret (84, tLi l, no, no, nI ps.1)) ps
/-- expressions, declarations: by fuel -/
noncomputable def pED : Nat → TK → PA TR × PA TR
  | 0, _ => (fun _ => none, fun _ => none)
  | n + 1, tk =>
    let E := (pED n tk).1
    let D := (pED n tk).2
    let ty := pTy 40 tk
    let pat := pPt 40 tk
    (pE0 tk ty pat E (pInf tk false (pApp tk (pAtom tk E D))), pDs tk (pDec tk ty pat (pApat tk ty (pPt 39 tk)) (pApat tk ty pat) E D))
noncomputable def pPrg (tk : TK) (dec : PA (Option TR)) (E : PA TR) : Nat → Bool → PA (List TR)
  | 0, _ => fun _ => none
  | m + 1, may => fun ps => if kAt tk ps.1 = 0 then some (.inl ([], ps)) else if sg tk ps.1 41 = true then pPrg tk dec E m true (ps.1 + 1, ps.2)
    else if begD tk ps.1 = true then pb dec (fun o => pb (pPrg tk dec E m false) fun l => pret (o.toList ++ l)) ps
    else if may = true then pb E (fun e ps' => if (sg tk ps'.1 41 || decide (kAt tk ps'.1 = 0)) = true then
        pb (pPrg tk dec E m may) (fun l => pret ((70, no, tLi [(71, tv (tVar 5 (nI ps.1)), tv e, .int 0, nI ps.1)], no, nI ps.1) :: l)) ps' else pflt 1 ps') ps
    else pflt 1 ps
