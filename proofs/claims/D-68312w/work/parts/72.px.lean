/-! the parser: tokens, its state, its results; the state of X -/
theorem d10 : ((1 : Int32) = 0) = False := by simp
abbrev TK : Type := List Int32 × List Int32 × List Int32
/-- where, how many are open, fresh names, fixities, changed names, what they were -/
abbrev PS : Type := Nat × Nat × Nat × List Int32 × List Int32 × List Int32
abbrev FT : Type := Int32 × Nat × List Int32 × List Int32 × List Int32
abbrev PR (α : Type) : Type := Option ((α × PS) ⊕ FT)
abbrev PA (α : Type) : Type := PS → PR α
abbrev TR : Type := Int32 × V × V × V × Int32
def tv (t : TR) : V := nd t.1 t.2.1 t.2.2.1 t.2.2.2.1 t.2.2.2.2
def pret {α : Type} (v : α) : PA α := fun ps => some (.inl (v, ps))
def pb {α β : Type} (p : PA α) (f : α → PA β) : PA β := fun ps => match p ps with
  | none => none
  | some (.inr e) => some (.inr e)
  | some (.inl (v, ps')) => f v ps'
def pflt {α : Type} (k : Int32) : PA α := fun ps => some (.inr (k, ps.1, ps.2.2.2))
def padv {α : Type} (p : PA α) : PA α := fun ps => p (ps.1 + 1, ps.2)
def kAt (tk : TK) (i : Nat) : Int32 := tk.1.getD i 0
def vAt (tk : TK) (i : Nat) : Int32 := tk.2.1.getD i 0
def nAt (tk : TK) (i : Nat) : Int32 := tk.2.2.getD i 0
def tokOK (k v n : Int32) : Prop := 1 ≤ k ∧ k ≤ 9 ∧ 0 ≤ v ∧ (k < 5 → v ≤ 8191) ∧ v ≤ 32767 ∧ -1 ≤ n ∧ n ≤ 9999
def tkOK (tk : TK) : Prop := tk.2.1.length = tk.1.length ∧ tk.2.2.length = tk.1.length ∧ tk.1.length ≤ 3000 ∧ ∀ i, i < tk.1.length → tokOK (kAt tk i) (vAt tk i) (nAt tk i)
def sg (tk : TK) (i : Nat) (s : Int32) : Bool := decide (kAt tk i = 1) && decide (vAt tk i = s)
def nmB (tk : TK) (i : Nat) : Bool := decide (kAt tk i = 2) || decide (kAt tk i = 3)
def fxA (fx : List Int32) (v : Int32) : Int32 := fx.getD v.toNatClampNeg 0
def oprB (tk : TK) (fx : List Int32) (i : Nat) : Bool := nmB tk i && !decide (fxA fx (vAt tk i) = 0)
def cstB (tk : TK) (i : Nat) : Bool := decide (5 < kAt tk i)
def tycB (tk : TK) (i : Nat) : Bool := decide (kAt tk i = 5) || decide (kAt tk i = 2) || (decide (kAt tk i = 3) && !decide (vAt tk i = 7))
/-- frames: of each of three rows what is hidden and what is there -/
abbrev FX : Type := (Nat × List V) × (Nat × List V) × (Nat × List V)
def ints (l : List Int32) : List V := l.map fun i => Term.int i
def stX (tk : TK) (ps : PS) (f : FX) (j : AS) : AS :=
  (fun k => if k = 3 then nI ps.1 else if k = 17 then nI ps.2.1 else if k = 18 then nI ps.2.2.1 else j.1 k,
   fun k => if k = 0 then ints tk.1 else if k = 1 then ints tk.2.1 else if k = 2 then ints tk.2.2 else if k = 10 then ints ps.2.2.2.1 else if k = 11 then ints ps.2.2.2.2.1 else if k = 12 then ints ps.2.2.2.2.2 else if k = 13 then f.1.2 else if k = 14 then f.2.1.2 else if k = 15 then f.2.2.2 else j.R k,
   fun k => if k = 13 then f.1.1 else if k = 14 then f.2.1.1 else if k = 15 then f.2.2.1 else if k < 13 then 0 else j.of k, j.nn, j.fl)
section STX
variable {tk : TK} {ps : PS} {f : FX} {j : AS}
theorem sX_f3 : (stX tk ps f j).1 3 = nI ps.1 := rfl
theorem sX_f17 : (stX tk ps f j).1 17 = nI ps.2.1 := rfl
theorem sX_f18 : (stX tk ps f j).1 18 = nI ps.2.2.1 := rfl
theorem sX_f21 : (stX tk ps f j).1 21 = j.1 21 := rfl
theorem sX_R0 : (stX tk ps f j).R 0 = ints tk.1 := rfl
theorem sX_R1 : (stX tk ps f j).R 1 = ints tk.2.1 := rfl
theorem sX_R2 : (stX tk ps f j).R 2 = ints tk.2.2 := rfl
theorem sX_R10 : (stX tk ps f j).R 10 = ints ps.2.2.2.1 := rfl
theorem sX_R11 : (stX tk ps f j).R 11 = ints ps.2.2.2.2.1 := rfl
theorem sX_R12 : (stX tk ps f j).R 12 = ints ps.2.2.2.2.2 := rfl
theorem sX_R13 : (stX tk ps f j).R 13 = f.1.2 := rfl
theorem sX_R14 : (stX tk ps f j).R 14 = f.2.1.2 := rfl
theorem sX_R15 : (stX tk ps f j).R 15 = f.2.2.2 := rfl
theorem sX_o0 : (stX tk ps f j).of 0 = 0 := rfl
theorem sX_o1 : (stX tk ps f j).of 1 = 0 := rfl
theorem sX_o2 : (stX tk ps f j).of 2 = 0 := rfl
theorem sX_o10 : (stX tk ps f j).of 10 = 0 := rfl
theorem sX_o11 : (stX tk ps f j).of 11 = 0 := rfl
theorem sX_o12 : (stX tk ps f j).of 12 = 0 := rfl
theorem sX_o13 : (stX tk ps f j).of 13 = f.1.1 := rfl
theorem sX_o14 : (stX tk ps f j).of 14 = f.2.1.1 := rfl
theorem sX_o15 : (stX tk ps f j).of 15 = f.2.2.1 := rfl
theorem sX_nn : (stX tk ps f j).nn = j.nn := rfl
theorem sX_fl : (stX tk ps f j).fl = j.fl := rfl
theorem sX_p3 (n : Nat) : apF (stX tk ps f j) 3 (nI n) = stX tk (n, ps.2) f j := by
  unfold apF stX va_up
  refine Prod.ext (funext fun k => ?_) rfl
  by_cases h : k = 3 <;> simp [h]
theorem sX_p17 (n : Nat) : apF (stX tk ps f j) 17 (nI n) = stX tk (ps.1, n, ps.2.2) f j := by
  unfold apF stX va_up
  refine Prod.ext (funext fun k => ?_) rfl
  by_cases h : k = 17 <;> simp [h]
theorem sX_p18 (n : Nat) : apF (stX tk ps f j) 18 (nI n) = stX tk (ps.1, ps.2.1, n, ps.2.2.2) f j := by
  unfold apF stX va_up
  refine Prod.ext (funext fun k => ?_) rfl
  by_cases h : k = 18 <;> simp [h]
theorem sX_p21 (v : Int32) : apF (stX tk ps f j) 21 v = stX tk ps f (apF j 21 v) := by
  unfold apF stX va_up
  refine Prod.ext (funext fun k => ?_) rfl
  by_cases h : k = 21 <;> simp [h]
theorem sX_p13 (l : List V) : apR (stX tk ps f j) 13 l = stX tk ps ((f.1.1, l), f.2) j := by
  unfold apR stX va_up
  refine Prod.ext rfl (Prod.ext (funext fun k => ?_) rfl)
  by_cases h : k = 13 <;> simp [h]
theorem sX_p14 (l : List V) : apR (stX tk ps f j) 14 l = stX tk ps (f.1, (f.2.1.1, l), f.2.2) j := by
  unfold apR stX va_up
  refine Prod.ext rfl (Prod.ext (funext fun k => ?_) rfl)
  by_cases h : k = 14 <;> simp [h]
theorem sX_p15 (l : List V) : apR (stX tk ps f j) 15 l = stX tk ps (f.1, f.2.1, (f.2.2.1, l)) j := by
  unfold apR stX va_up
  refine Prod.ext rfl (Prod.ext (funext fun k => ?_) rfl)
  by_cases h : k = 15 <;> simp [h]
theorem sX_p10 (l : List Int32) : apR (stX tk ps f j) 10 (ints l) = stX tk (ps.1, ps.2.1, ps.2.2.1, l, ps.2.2.2.2) f j := by
  unfold apR stX va_up
  refine Prod.ext rfl (Prod.ext (funext fun k => ?_) rfl)
  by_cases h : k = 10 <;> simp [h]
theorem sX_p11 (l : List Int32) : apR (stX tk ps f j) 11 (ints l) = stX tk (ps.1, ps.2.1, ps.2.2.1, ps.2.2.2.1, l, ps.2.2.2.2.2) f j := by
  unfold apR stX va_up
  refine Prod.ext rfl (Prod.ext (funext fun k => ?_) rfl)
  by_cases h : k = 11 <;> simp [h]
theorem sX_p12 (l : List Int32) : apR (stX tk ps f j) 12 (ints l) = stX tk (ps.1, ps.2.1, ps.2.2.1, ps.2.2.2.1, ps.2.2.2.2.1, l) f j := by
  unfold apR stX va_up
  refine Prod.ext rfl (Prod.ext (funext fun k => ?_) rfl)
  by_cases h : k = 12 <;> simp [h]
/-! leaves of X -/
theorem ints_len (l : List Int32) : (ints l).length = l.length := by simp [ints]
theorem ints_get (l : List Int32) (i : Nat) : (ints l)[i]? = l[i]?.map fun x => Term.int x := by simp [ints]
theorem aix_ints {l : List Int32} {n : Nat} (hl : l.length < 2 ^ 31) (h : n < l.length) : aix 0 (ints l) (.int (nI n)) = some (.int (l.getD n 0)) := by
  rw [aix_nI (by omega) (Nat.zero_le _), Nat.sub_zero, ints_get]
  simp [List.getD, h]
theorem kAt_out {i : Nat} (h : tk.1.length ≤ i) : kAt tk i = 0 := by
  unfold kAt
  simp [List.getD, List.getElem?_eq_none h]
theorem k_lt {i : Nat} (h : kAt tk i ≠ 0) : i < tk.1.length := by
  apply Nat.not_le.mp
  intro q
  exact h (kAt_out q)
theorem sg_lt {i : Nat} {s : Int32} (h : sg tk i s = true) : i < tk.1.length := by
  apply k_lt
  simp [sg] at h
  rw [h.1]
  decide
variable {n : Nat}
theorem x_kind (ht : tkOK tk) (ha : ps.1 ≤ tk.1.length) : aX (n + 1) 9 [] (stX tk ps f j) = some (some (.int (kAt tk ps.1)), stX tk ps f j) := by
  have h3 := ht.2.2.1
  simp only [eX_kind, zX_kind, amth_eq, rn_seq, rn_if, rn_set, rn_inc, rn_ex, rn_ret, rn_ret0, rn_skip, rn_putF, rn_opF, rn_opU, rn_putS, rn_opS, rn_at, rn_atB, rn_add, rn_swap, rn_sw, rn_brk, rn_cnt, fin_ok, fin_ab, fin_ite, fin_og, fin_b, fin_0, fin_1, fin_v, fin_no, fin_none, d10, eq_self, decide_true, decide_false, ti_b, b2i_t, b2i_f, aK, aL, aF, aSz, aBin, aDiv, aB, aAt, aNd, aArgs, aCall, aIf, bCmp, bZ, bAnd, bOr, bNot, bTT, bIf, ab_ok, ab_no, ab_none, ab_ab, ab_ite, aok_ok, aok_none, og_ok, og_none, vbin_i, vb8_i, vput_i, vI_i, cmp_i, hold_eq, hold_ne, hold_lt, hold_ge, hold_gt, hold_le, b2i_0, ss_b, ss_ite, oAdd, oSub, oMul, Option.bind_some, A0of, va_up, List.length_nil, List.length_cons, List.getD_cons_zero, List.getD_cons_succ, List.getD_nil, if_true, if_false, Bool.not_not, Bool.not_true, Bool.not_false, Bool.false_eq_true, reduceIte, Nat.reduceSub, Nat.reduceAdd, Nat.reduceEqDiff, sX_f3, sX_f17, sX_f18, sX_f21, sX_R0, sX_R1, sX_R2, sX_R10, sX_R11, sX_R12, sX_R13, sX_R14, sX_R15, sX_o0, sX_o1, sX_o2, sX_o10, sX_o11, sX_o12, sX_o13, sX_o14, sX_o15, sX_nn, sX_fl, ints_len, Nat.zero_add]
  by_cases h : ps.1 < tk.1.length
  · have : nI ps.1 < nI tk.1.length := nI_lt h (by omega)
    simp only [this, decide_true, if_true, aix_ints (by omega) h, aok_ok]
    rfl
  · have : ¬ nI ps.1 < nI tk.1.length := nI_nlt (by omega) (by omega)
    simp only [this, decide_false]
    rw [kAt_out (by omega)]
    rfl
end STX
