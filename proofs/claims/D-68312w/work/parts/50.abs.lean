/-! values that are ints or trees: the tree level -/
abbrev V : Type := Term
abbrev ND : Type := Int32 × Int32 × Int32 × Int32 × Int32
/-- int fields; rows, of which a lower part is hidden; how much is hidden; how many nodes there are; how many faults may be made -/
abbrev AS : Type := (Nat → Int32) × (Nat → List V) × (Nat → Nat) × Nat × Nat
abbrev AS.R (A : AS) : Nat → List V := A.2.1
abbrev AS.of (A : AS) : Nat → Nat := A.2.2.1
abbrev AS.nn (A : AS) : Nat := A.2.2.2.1
abbrev AS.fl (A : AS) : Nat := A.2.2.2.2
abbrev AL : Type := Nat → V
abbrev ARC : Type := Nat → List V → AS → Option (Option V × AS)
abbrev AX : Type := AL → AS → Option (Option V × AS)
abbrev BX : Type := AL → AS → Option (Option Bool × AS)
abbrev ZX : Type := AL → AS → Option ((Nat × V) × AL × AS)
abbrev ALM : Nat := 30000
def apF (A : AS) (k : Nat) (v : Int32) : AS := (va_up A.1 k v, A.2)
def apR (A : AS) (k : Nat) (l : List V) : AS := (A.1, va_up A.2.1 k l, A.2.2)
def ab {α β : Type} (r : Option (Option α × AS)) (f : α → AS → Option (Option β × AS)) : Option (Option β × AS) := match r with
  | none => none
  | some (none, A) => some (none, A)
  | some (some v, A) => f v A
def aK (v : Int32) : AX := fun _ A => some (some (.int v), A)
def aL (k : Nat) : AX := fun L A => some (some (L k), A)
def aF (k : Nat) : AX := fun _ A => some (some (.int (A.1 k)), A)
def aSz (k : Nat) : AX := fun _ A => some (some (.int (nI (A.of k + (A.R k).length))), A)
def vbin (op : Int32 → Int32 → Int32) (x y : V) : Option V := match x, y with
  | .int i, .int j => some (.int (op i j))
  | _, _ => none
def vdiv (op : Int32 → Int32 → Int32) (x y : V) : Option V := match x, y with
  | .int i, .int j => if j = 0 then none else some (.int (op i j))
  | _, _ => none
def vb8 (x : V) : Option V := match x with
  | .int i => some (.int i.toInt8.toInt32)
  | _ => none
def aok {α : Type} (r : Option α) (A : AS) : Option (Option α × AS) := match r with
  | some v => some (some v, A)
  | none => none
def aBin (op : Int32 → Int32 → Int32) (a b : AX) : AX := fun L A => ab (a L A) fun x A => ab (b L A) fun y A => aok (vbin op x y) A
def aDiv (op : Int32 → Int32 → Int32) (a b : AX) : AX := fun L A => ab (a L A) fun x A => ab (b L A) fun y A => aok (vdiv op x y) A
def aB (a : AX) : AX := fun L A => ab (a L A) fun x A => aok (vb8 x) A
def aix (o : Nat) (l : List V) (v : V) : Option V := match v with
  | .int i => if i < 0 ∨ i.toNatClampNeg < o then none else l[i.toNatClampNeg - o]?
  | _ => none
def aAt (k : Nat) (a : AX) : AX := fun L A => ab (a L A) fun j A => aok (aix (A.of k) (A.R k) j) A
def aNN : AX := fun _ A => some (some (.int (nI A.nn)), A)
def cvA (cv : Int32 → Int32) (a : V) : Option V := match a with
  | .int i => some (.int (cv i))
  | _ => none
/-- a field of a tree: 0 its kind, 1 2 3 the three, 4 its place -/
def ndF (cv : Int32 → Int32) (j : Nat) (v : V) : Option V := match v with
  | .elem (.int k) (.elem a (.elem b (.elem c (.int p)))) => (match j with
    | 0 => some (.int k)
    | 1 => if k = 11 ∨ k = 32 then cvA cv a else some a
    | 2 => some b
    | 3 => some c
    | _ => some (.int p))
  | _ => none
def aNd (cv : Int32 → Int32) (j : Nat) (a : AX) : AX := fun L A => ab (a L A) fun v A => aok (ndF cv j v) A
def aArgs : List AX → AL → AS → Option (Option (List V) × AS)
  | [], _, A => some (some [], A)
  | a :: t, L, A => ab (a L A) fun v A => ab (aArgs t L A) fun vs A => some (some (v :: vs), A)
def aCall (rec : ARC) (t : Nat) (as : List AX) : AX := fun L A => ab (aArgs as L A) fun vs A => rec t vs A
def aPop (k : Nat) : AX := fun _ A => match (A.R k).getLast? with
  | some v => some (some v, apR A k (A.R k).dropLast)
  | none => none
def aFU (k : Nat) (d : Int32) : AX := fun _ A => if (A.1 k).toInt ≤ (A.1 k + d).toInt then some (some (.int (A.1 k)), apF A k (A.1 k + d)) else none
def aIf (c : BX) (a b : AX) : AX := fun L A => ab (c L A) fun q A => if q then a L A else b L A
def cmpV (cd : ClassFile.Cond) (x y : V) : Option Bool := match x, y with
  | .int i, .int j => some (holdC cd i j)
  | .elem _ _, .int j => if j = -1 then (match cd with | .eq => some false | .ne => some true | .lt => some false | .ge => some true | .gt => some true | .le => some false)
    else if j = 0 then (match cd with | .lt => some false | .ge => some true | _ => none) else none
  | _, _ => none
def bCmp (cd : ClassFile.Cond) (a b : AX) : BX := fun L A => ab (a L A) fun x A => ab (b L A) fun y A => aok (cmpV cd x y) A
def bZ (cd : ClassFile.Cond) (a : AX) : BX := fun L A => ab (a L A) fun x A => aok (cmpV cd x (.int 0)) A
def bAnd (a b : BX) : BX := fun L A => ab (a L A) fun x A => if x then b L A else some (some false, A)
def bOr (a b : BX) : BX := fun L A => ab (a L A) fun x A => if x then some (some true, A) else b L A
def bNot (a : BX) : BX := fun L A => ab (a L A) fun x A => some (some (!x), A)
def bTT : BX := fun _ A => some (some true, A)
def bIf (c a b : BX) : BX := fun L A => ab (c L A) fun q A => if q then a L A else b L A
def zb {α : Type} (r : Option (Option α × AS)) (L : AL) (f : α → AS → Option ((Nat × V) × AL × AS)) : Option ((Nat × V) × AL × AS) := match r with
  | none => none
  | some (none, A) => some ((2, .int 0), L, A)
  | some (some v, A) => f v A
def zgo (L : AL) (r : Option AS) : Option ((Nat × V) × AL × AS) := match r with
  | none => none
  | some A => some ((0, .int 0), L, A)
def zSkip : ZX := fun L A => some ((0, .int 0), L, A)
def zSeq (a b : ZX) : ZX := fun L A => match a L A with
  | none => none
  | some (f, L', A') => if f.1 = 0 then b L' A' else some (f, L', A')
def zIf (c : BX) (a b : ZX) : ZX := fun L A => zb (c L A) L fun q A => if q then a L A else b L A
def zSet (k : Nat) (a : AX) : ZX := fun L A => zb (a L A) L fun v A => some ((0, .int 0), va_up L k v, A)
def zInc (k : Nat) (d : Int32) : ZX := fun L A => match vbin oAdd (L k) (.int d) with
  | some v => some ((0, .int 0), va_up L k v, A)
  | none => none
def vput (A : AS) (k : Nat) (v : V) : Option AS := match v with
  | .int i => some (apF A k i)
  | _ => none
def vputZ (A : AS) (k : Nat) (v : V) : Option AS := match v with
  | .int i => if i = 0 ∨ i = 1 then some (apF A k i) else none
  | _ => none
def vputU (A : AS) (k : Nat) (v : V) : Option AS := match v with
  | .int i => if (A.1 k).toInt ≤ i.toInt then some (apF A k i) else none
  | _ => none
def zPutF (k : Nat) (a : AX) : ZX := fun L A => zb (a L A) L fun v A => zgo L (vput A k v)
def zPutZ (k : Nat) (a : AX) : ZX := fun L A => zb (a L A) L fun v A => zgo L (vputZ A k v)
def zOpF (op : Int32 → Int32 → Int32) (k : Nat) (a : AX) : ZX := fun L A => zb (a L A) L fun v A' => zgo L ((vbin op (.int (A.1 k)) v).bind (vput A' k))
def zOpU (op : Int32 → Int32 → Int32) (k : Nat) (a : AX) : ZX := fun L A => zb (a L A) L fun v A' => zgo L ((vbin op (.int (A.1 k)) v).bind (vputU A' k))
def vsize (A : AS) (k : Nat) (v : V) : Option AS := match v with
  | .int i => if i < 0 ∨ i.toNatClampNeg < A.of k ∨ A.of k + (A.R k).length < i.toNatClampNeg then none else some (apR A k ((A.R k).take (i.toNatClampNeg - A.of k)))
  | _ => none
def zPutS (k : Nat) (a : AX) : ZX := fun L A => zb (a L A) L fun v A => zgo L (vsize A k v)
def zOpS (op : Int32 → Int32 → Int32) (k : Nat) (a : AX) : ZX := fun L A => zb (a L A) L fun v A' => zgo L ((vbin op (.int (nI (A.of k + (A.R k).length))) v).bind (vsize A' k))
def vset (A : AS) (k : Nat) (j v : V) : Option AS := match j with
  | .int i => if i < 0 ∨ i.toNatClampNeg < A.of k ∨ A.of k + (A.R k).length ≤ i.toNatClampNeg then none else some (apR A k ((A.R k).set (i.toNatClampNeg - A.of k) v))
  | _ => none
def zAt (k : Nat) (i a : AX) : ZX := fun L A => zb (i L A) L fun j A => zb (a L A) L fun v A => zgo L (vset A k j v)
def isB8 (v : V) : Bool := match v with
  | .int i => decide (i.toInt8.toInt32 = i)
  | _ => false
def zAtB (k : Nat) (i a : AX) : ZX := fun L A => zb (i L A) L fun j A => zb (a L A) L fun v A => if isB8 v then zgo L (vset A k j v) else none
def vadd (A : AS) (k : Nat) (v : V) : Option AS := if A.of k + (A.R k).length < ALM then some (apR A k (A.R k ++ [v])) else none
def zAdd (k : Nat) (a : AX) : ZX := fun L A => zb (a L A) L fun v A => zgo L (vadd A k v)
def vswap (A : AS) (k : Nat) (i j : V) : Option AS := (aix (A.of k) (A.R k) i).bind fun x => (aix (A.of k) (A.R k) j).bind fun y => (vset A k i y).bind fun A' => vset A' k j x
def zSwap (k : Nat) (i j : AX) : ZX := fun L A => zb (i L A) L fun x A => zb (j L A) L fun y A => zgo L (vswap A k x y)
def zEx (a : AX) : ZX := fun L A => zb (a L A) L fun _ A => some ((0, .int 0), L, A)
def zRet (a : AX) : ZX := fun L A => zb (a L A) L fun v A => some ((1, v), L, A)
def zRet0 : ZX := fun L A => some ((1, .int 0), L, A)
def zBrk : ZX := fun L A => some ((3, .int 0), L, A)
def zCnt : ZX := fun L A => some ((4, .int 0), L, A)
def zWh : Nat → BX → ZX → ZX → ZX
  | 0, _, _, _ => fun _ _ => none
  | n + 1, c, b, st => fun L A => zb (c L A) L fun q A => if q then (match b L A with
      | none => none
      | some (f, L, A) => if f.1 = 0 ∨ f.1 = 4 then (match st L A with
          | none => none
          | some (g, L, A) => if g.1 = 0 then zWh n c b st L A else some (g, L, A))
        else if f.1 = 3 then some ((0, .int 0), L, A) else some (f, L, A)) else some ((0, .int 0), L, A)
def zDo : Nat → ZX → BX → ZX
  | 0, _, _ => fun _ _ => none
  | n + 1, b, c => fun L A => match b L A with
    | none => none
    | some (f, L, A) => if f.1 = 0 ∨ f.1 = 4 then (zb (c L A) L fun q A => if q then zDo n b c L A else some ((0, .int 0), L, A)) else if f.1 = 3 then some ((0, .int 0), L, A) else some (f, L, A)
def vI (v : V) : Option Int32 := match v with
  | .int i => some i
  | _ => none
def zbk (r : Option ((Nat × V) × AL × AS)) : Option ((Nat × V) × AL × AS) := match r with
  | none => none
  | some (f, L, A) => if f.1 = 3 then some ((0, .int 0), L, A) else some (f, L, A)
def zSw (a : AX) (sel : Int32 → ZX) : ZX := fun L A => zb (a L A) L fun v A => match vI v with
  | some i => zbk (sel i L A)
  | none => none
def zTry (b h : ZX) : ZX := fun L A => match b L A with
  | none => none
  | some (f, L', A') => if f.1 = 2 then h L' A' else some (f, L', A')
def A0of (inst : Bool) (as : List V) : AL := fun k => if inst then as.getD (k - 1) (.int 0) else as.getD k (.int 0)
def isBv (v : V) : Bool := match v with
  | .int i => decide (i = 0) || decide (i = 1)
  | _ => false
def amth (inst rt isb : Bool) (np : Nat) (b : ZX) (as : List V) (A : AS) : Option (Option V × AS) := if as.length = np then (match b (A0of inst as) A with
  | some ((1, v), _, A') => if isb && !isBv v then none else some (some (if rt then v else .int 0), A')
  | some ((2, _), _, A') => some (none, A')
  | _ => none) else none
/-! lists in step -/
def F2 {α β : Type} (R : α → β → Prop) : List α → List β → Prop
  | [], [] => True
  | a :: s, b :: t => R a b ∧ F2 R s t
  | _, _ => False
section F2S
variable {α β : Type} {R S : α → β → Prop}
theorem F2.len : ∀ {s : List α} {t : List β}, F2 R s t → s.length = t.length := by
  intro s
  induction s with
  | nil => intro t h; cases t with | nil => rfl | cons b t => exact h.elim
  | cons a s ih => intro t h; cases t with | nil => exact h.elim | cons b t => simp [ih h.2]
theorem F2.imp (hi : ∀ a b, R a b → S a b) : ∀ {s : List α} {t : List β}, F2 R s t → F2 S s t := by
  intro s
  induction s with
  | nil => intro t h; cases t with | nil => trivial | cons b t => exact h.elim
  | cons a s ih => intro t h; cases t with | nil => exact h.elim | cons b t => exact ⟨hi _ _ h.1, ih h.2⟩
theorem F2.app : ∀ {s s' : List α} {t t' : List β}, F2 R s t → F2 R s' t' → F2 R (s ++ s') (t ++ t') := by
  intro s
  induction s with
  | nil => intro s' t t' h h'; cases t with | nil => exact h' | cons b t => exact h.elim
  | cons a s ih => intro s' t t' h h'; cases t with | nil => exact h.elim | cons b t => exact ⟨h.1, ih h.2 h'⟩
theorem F2.get : ∀ {s : List α} {t : List β} {i : Nat} {a : α}, F2 R s t → s[i]? = some a → ∃ b, t[i]? = some b ∧ R a b := by
  intro s
  induction s with
  | nil => intro t i a h hi; simp at hi
  | cons x s ih =>
    intro t i a h hi
    cases t with
    | nil => exact h.elim
    | cons y t =>
      cases i with
      | zero => simp at hi; subst hi; exact ⟨y, rfl, h.1⟩
      | succ i =>
        simp at hi
        obtain ⟨b, hb, hr⟩ := ih h.2 hi
        exact ⟨b, by simpa using hb, hr⟩
theorem F2.take : ∀ {s : List α} {t : List β} (n : Nat), F2 R s t → F2 R (s.take n) (t.take n) := by
  intro s
  induction s with
  | nil => intro t n h; cases t with | nil => simpa using h | cons b t => exact h.elim
  | cons x s ih =>
    intro t n h
    cases t with
    | nil => exact h.elim
    | cons y t => cases n with
      | zero => trivial
      | succ n => exact ⟨h.1, ih n h.2⟩
theorem F2.drL {s : List α} {t : List β} (h : F2 R s t) : F2 R s.dropLast t.dropLast := by
  rw [List.dropLast_eq_take, List.dropLast_eq_take, h.len]
  exact h.take _
theorem F2.last {s : List α} {t : List β} {a : α} (h : F2 R s t) (ha : s.getLast? = some a) : ∃ b, t.getLast? = some b ∧ R a b := by
  rw [List.getLast?_eq_getElem?] at ha ⊢
  rw [← h.len]
  exact h.get ha
theorem F2.set : ∀ {s : List α} {t : List β} (i : Nat) {a : α} {b : β}, F2 R s t → R a b → F2 R (s.set i a) (t.set i b) := by
  intro s
  induction s with
  | nil => intro t i a b h _; cases t with | nil => simpa using h | cons b t => exact h.elim
  | cons x s ih =>
    intro t i a b h hr
    cases t with
    | nil => exact h.elim
    | cons y t => cases i with
      | zero => exact ⟨hr, h.2⟩
      | succ i => exact ⟨h.1, ih i h.2 hr⟩
end F2S
/-! trees and their nodes -/
def prt (k : Int32) : Nat := if [1, 14, 15, 16, 17, 20, 36, 54, 70, 71, 74, 82].contains k then 3 else if [12, 18, 19, 33, 51, 53, 72, 79, 83, 84].contains k then 1 else if [13, 34, 52, 76, 80].contains k then 2
  else if k = 35 then 4 else if k = 37 then 6 else if k = 73 ∨ k = 75 then 5 else if k = 78 then 7 else 0
def isT (v : V) : Bool := match v with
  | .elem _ _ => true
  | _ => false
def okF (bit : Bool) (v : V) : Bool := match v with
  | .elem _ _ => bit
  | .int i => !bit || i == -1
  | _ => false
def okN (k : Int32) (a b c : V) : Bool := okF ((prt k).testBit 0) a && okF ((prt k).testBit 1) b && okF ((prt k).testBit 2) c
def rep (cv : Int32 → Int32) (nds : List ND) : V → Int32 → Prop
  | .int i, x => x = i
  | .elem (.int k) (.elem a (.elem b (.elem c (.int p)))), x => ∃ (n : Nat) (a' b' c' : Int32), n < 2 ^ 30 ∧ x = nI n ∧ nds[n]? = some (k, a', b', c', p) ∧ okN k a b c = true ∧
      (if k = 11 ∨ k = 32 then ∃ i, a = .int i ∧ a' = cv i else rep cv nds a a') ∧ rep cv nds b b' ∧ rep cv nds c c' ∧ (isT a = true → a' < x) ∧ (isT b = true → b' < x) ∧ (isT c = true → c' < x)
  | _, _ => False
theorem rep_mono {cv : Int32 → Int32} {nds nds' : List ND} (hp : nds <+: nds') (v : V) : ∀ x, rep cv nds v x → rep cv nds' v x := by
  intro x
  induction v, x using rep.induct with
  | case1 x i => intro h; simpa [rep] using h
  | case2 k a b c p x ih1 ih2 ih3 =>
    intro h
    rw [rep] at h ⊢
    obtain ⟨n, a', b', c', h1, h2, h3, h4, h5, h6, h7, h8⟩ := h
    refine ⟨n, a', b', c', h1, h2, ?_, h4, ?_, ih2 b' h6, ih3 c' h7, h8⟩
    · obtain ⟨t, rfl⟩ := hp
      rw [List.getElem?_append_left (List.getElem?_eq_some_iff.mp h3).1]
      exact h3
    · split at h5
      · next hk => rw [if_pos hk]; exact h5
      · next hk => rw [if_neg hk]; exact ih1 a' h5
  | case3 v x h1 h2 => intro h; rw [rep] at h; exact h.elim; exact h1; exact h2
