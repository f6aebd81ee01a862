/-! the abstract machine: its store, its instructions as a transformer of predicates -/
/-- a value: an int, or a reference by its sign: (0, _) any reference, (1, _) the big object, (k + 2, 0) what its field k holds, (k + 2, n + 1) the array of the row in field k, when that was n long -/
abbrev AV : Type := Int32 ⊕ (Nat × Nat)
/-- the store: int fields, rows' contents, lengths of their arrays, cells made, slots made -/
abbrev SS : Type := (Nat → Int32) × (Nat → List Int32) × (Nat → Nat) × Nat × Nat
abbrev LL : Type := Nat → Int32
/-- what calls do: stuck; thrown or returned, and the store behind -/
abbrev RC : Type := Nat → List Int32 → SS → Option (Option Int32 × SS)
/-- a class: kinds of its fields (0 int, 1 boolean, 2 row, 3 array of bytes, 4 array of ints, 5 other), fields by constant, methods by constant (0 own, 1 a row's; tag; how many parameters; whether it answers), static methods, constants -/
abbrev CF : Type := (Nat → Nat) × (Nat → Option (Nat × Nat)) × (Nat → Option (Nat × Nat × Nat × Bool)) × (Nat → Option (Nat × Nat × Bool)) × (Nat → Option Int32)
abbrev TB : Type := List (Nat × Instr × Nat × List Nat)
abbrev MXC : Nat := 590000
abbrev MXS : Nat := 7200000
def putF (σ : SS) (k : Nat) (v : Int32) : SS := (va_up σ.1 k v, σ.2)
def putR (σ : SS) (k : Nat) (l : List Int32) : SS := (σ.1, va_up σ.2.1 k l, σ.2.2)
def ix (l : List Int32) (i : Int32) : Option Int32 := if i < 0 then none else l[i.toNatClampNeg]?
def rowSet (σ : SS) (k : Nat) (i v : Int32) : Option SS := if i < 0 ∨ (σ.2.1 k).length ≤ i.toNatClampNeg then none else some (putR σ k ((σ.2.1 k).set i.toNatClampNeg v))
def rowAdd (σ : SS) (k : Nat) (v : Int32) : Option SS :=
  if (σ.2.1 k).length < σ.2.2.1 k then some (putR σ k (σ.2.1 k ++ [v]))
  else if σ.2.2.2.1 + 1 ≤ MXC ∧ σ.2.2.2.2 + 2 * (σ.2.1 k).length ≤ MXS then some (σ.1, va_up σ.2.1 k (σ.2.1 k ++ [v]), va_up σ.2.2.1 k (2 * (σ.2.1 k).length), σ.2.2.2.1 + 1, σ.2.2.2.2 + 2 * (σ.2.1 k).length)
  else none
def rowPop (σ : SS) (k : Nat) : Option (Int32 × SS) := (σ.2.1 k).getLast?.map fun v => (v, putR σ k (σ.2.1 k).dropLast)
def rowSize (σ : SS) (k : Nat) (v : Int32) : Option SS := if v < 0 ∨ (σ.2.1 k).length < v.toNatClampNeg then none else some (putR σ k ((σ.2.1 k).take v.toNatClampNeg))
def rowSwap (σ : SS) (k : Nat) (i j : Int32) : Option SS := (ix (σ.2.1 k) i).bind fun x => (ix (σ.2.1 k) j).bind fun y => (rowSet σ k i y).bind fun σ' => rowSet σ' k j x
def pops : Nat → List Int32 → List AV → Option (List Int32 × List AV)
  | 0, acc, st => some (acc, st)
  | n + 1, acc, .inl v :: st => pops n (v :: acc) st
  | _ + 1, _, _ => none
def holdC (cd : ClassFile.Cond) (x y : Int32) : Bool := match cd with
  | .eq => decide (x = y) | .ne => decide (¬ x = y) | .lt => decide (x < y) | .ge => decide (y ≤ x) | .gt => decide (y < x) | .le => decide (x ≤ y)
def jm (pc : Nat) (off : Int) : Nat := ((pc : Int) + off).toNat
def alook {α : Type} : List (Nat × α) → Nat → Option α
  | [], _ => none
  | (k, v) :: t, n => if Nat.beq k n then some v else alook t n
def tsw (pc : Nat) (dflt lo hi : Int) (offs : Array Int) (x : Int32) : Option Nat := if x.toInt < lo ∨ hi < x.toInt then some (jm pc dflt) else (offs[(x.toInt - lo).toNat]?).map (jm pc)
/-- what a call leaves -/
def cwp (G : LL → List AV → SS → Prop) (Th : LL → SS → Prop) (rt : Bool) (L : LL) (st : List AV) (r : Option (Option Int32 × SS)) : Prop := match r with
  | none => False
  | some (none, σ') => Th L σ'
  | some (some v, σ') => G L (if rt then .inl v :: st else st) σ'
def awp (cf : CF) (rec : RC) (G : Nat → LL → List AV → SS → Prop) (Ret : Option Int32 → SS → Prop) (Th : Nat → LL → SS → Prop) (pc : Nat) (i : Instr) (len : Nat) (L : LL) (st : List AV) (σ : SS) : Prop := match i with
  | .iconst n => G (pc + len) L (.inl (Int32.ofInt n) :: st) σ
  | .bipush n => G (pc + len) L (.inl (Int8.ofInt n).toInt32 :: st) σ
  | .sipush n => G (pc + len) L (.inl (Int16.ofInt n).toInt32 :: st) σ
  | .ldc k => match cf.2.2.2.2 k with | some v => G (pc + len) L (.inl v :: st) σ | none => False
  | .iload_n k => G (pc + len) L (.inl (L k.val) :: st) σ
  | .iload k => G (pc + len) L (.inl (L k) :: st) σ
  | .istore_n k => match st with | .inl v :: st' => G (pc + len) (va_up L k.val v) st' σ | _ => False
  | .istore k => match st with | .inl v :: st' => G (pc + len) (va_up L k v) st' σ | _ => False
  | .iinc k n => G (pc + len) (va_up L k (L k + Int32.ofInt n)) st σ
  | .aload_n k => if k.val = 0 then G (pc + len) L (.inr (1, 0) :: st) σ else False
  | .astore_n _ => match st with | .inr (0, _) :: st' => G (pc + len) L st' σ | _ => False
  | .astore _ => match st with | .inr (0, _) :: st' => G (pc + len) L st' σ | _ => False
  | .iadd => match st with | .inl y :: .inl x :: st' => G (pc + len) L (.inl (x + y) :: st') σ | _ => False
  | .isub => match st with | .inl y :: .inl x :: st' => G (pc + len) L (.inl (x - y) :: st') σ | _ => False
  | .imul => match st with | .inl y :: .inl x :: st' => G (pc + len) L (.inl (x * y) :: st') σ | _ => False
  | .iand => match st with | .inl y :: .inl x :: st' => G (pc + len) L (.inl (x &&& y) :: st') σ | _ => False
  | .ishr => match st with | .inl y :: .inl x :: st' => G (pc + len) L (.inl (x >>> (y &&& 31)) :: st') σ | _ => False
  | .idiv => match st with | .inl y :: .inl x :: st' => if y = 0 then False else G (pc + len) L (.inl (x / y) :: st') σ | _ => False
  | .irem => match st with | .inl y :: .inl x :: st' => if y = 0 then False else G (pc + len) L (.inl (x - x / y * y) :: st') σ | _ => False
  | .i2b => match st with | .inl x :: st' => G (pc + len) L (.inl x.toInt8.toInt32 :: st') σ | _ => False
  | .dup => match st with | a :: st' => G (pc + len) L (a :: a :: st') σ | _ => False
  | .dup_x1 => match st with | a :: b :: st' => G (pc + len) L (a :: b :: a :: st') σ | _ => False
  | .pop => match st with | _ :: st' => G (pc + len) L st' σ | _ => False
  | .goto off => G (jm pc off) L st σ
  | .if_icmp cd off => match st with | .inl y :: .inl x :: st' => if holdC cd x y then G (jm pc off) L st' σ else G (pc + len) L st' σ | _ => False
  | .ifCond cd off => match st with | .inl x :: st' => if holdC cd x 0 then G (jm pc off) L st' σ else G (pc + len) L st' σ | _ => False
  | .tableswitch d lo hi offs => match st with | .inl x :: st' => (match tsw pc d lo hi offs x with | some q => G q L st' σ | none => False) | _ => False
  | .lookupswitch d ps => match st with | .inl x :: st' => G (jm pc (Op.lookupswitch.offset ps.toList d x.toInt)) L st' σ | _ => False
  | .getfield n => match cf.2.1 n, st with
    | some (0, k), .inr (1, _) :: st' => if cf.1 k ≤ 1 then G (pc + len) L (.inl (σ.1 k) :: st') σ else G (pc + len) L (.inr (k + 2, 0) :: st') σ
    | some (1, _), .inr (k + 2, 0) :: st' => if cf.1 k = 2 ∧ k < 23 then G (pc + len) L (.inr (k + 2, σ.2.2.1 k + 1) :: st') σ else False
    | some (2, _), .inr (k + 2, 0) :: st' => if cf.1 k = 2 ∧ k < 23 then G (pc + len) L (.inl (nI (σ.2.1 k).length) :: st') σ else False
    | _, _ => False
  | .putfield n => match cf.2.1 n, st with
    | some (0, k), .inl v :: .inr (1, _) :: st' => if cf.1 k = 0 ∨ (cf.1 k = 1 ∧ (v = 0 ∨ v = 1)) then G (pc + len) L st' (putF σ k v) else False
    | some (2, _), .inl v :: .inr (k + 2, 0) :: st' => if cf.1 k = 2 ∧ k < 23 then (match rowSize σ k v with | some σ' => G (pc + len) L st' σ' | none => False) else False
    | _, _ => False
  | .iaload => match st with
    | .inl j :: .inr (k + 2, 0) :: st' => if cf.1 k = 4 ∧ k < 23 then (match ix (σ.2.1 k) j with | some v => G (pc + len) L (.inl v :: st') σ | none => False) else False
    | .inl j :: .inr (k + 2, n + 1) :: st' => if cf.1 k = 2 ∧ k < 23 ∧ σ.2.2.1 k = n then (match ix (σ.2.1 k) j with | some v => G (pc + len) L (.inl v :: st') σ | none => False) else False
    | _ => False
  | .baload => match st with
    | .inl j :: .inr (k + 2, 0) :: st' => if cf.1 k = 3 ∧ k < 23 then (match ix (σ.2.1 k) j with | some v => G (pc + len) L (.inl v :: st') σ | none => False) else False
    | _ => False
  | .iastore => match st with
    | .inl v :: .inl j :: .inr (k + 2, 0) :: st' => if cf.1 k = 4 ∧ k < 23 then (match rowSet σ k j v with | some σ' => G (pc + len) L st' σ' | none => False) else False
    | .inl v :: .inl j :: .inr (k + 2, n + 1) :: st' => if cf.1 k = 2 ∧ k < 23 ∧ σ.2.2.1 k = n then (match rowSet σ k j v with | some σ' => G (pc + len) L st' σ' | none => False) else False
    | _ => False
  | .bastore => match st with
    | .inl v :: .inl j :: .inr (k + 2, 0) :: st' => if cf.1 k = 3 ∧ k < 23 ∧ v.toInt8.toInt32 = v then (match rowSet σ k j v with | some σ' => G (pc + len) L st' σ' | none => False) else False
    | _ => False
  | .invokevirtual n => match cf.2.2.1 n with
    | some (0, t, np, rt) => (match pops np [] st with | some (as, .inr (1, _) :: st') => st'.length ≤ 24 ∧ cwp (G (pc + len)) (Th pc) rt L st' (rec t as σ) | _ => False)
    | some (1, 0, _, _) => (match st with | .inl v :: .inr (k + 2, 0) :: st' => if cf.1 k = 2 ∧ k < 23 ∧ st'.length ≤ 24 then (match rowAdd σ k v with | some σ' => G (pc + len) L st' σ' | none => False) else False | _ => False)
    | some (1, 1, _, _) => (match st with | .inr (k + 2, 0) :: st' => if cf.1 k = 2 ∧ k < 23 ∧ st'.length ≤ 24 then (match rowPop σ k with | some (v, σ') => G (pc + len) L (.inl v :: st') σ' | none => False) else False | _ => False)
    | some (1, 2, _, _) => (match st with | .inl j :: .inl i :: .inr (k + 2, 0) :: st' => if cf.1 k = 2 ∧ k < 23 ∧ st'.length ≤ 24 then (match rowSwap σ k i j with | some σ' => G (pc + len) L st' σ' | none => False) else False | _ => False)
    | _ => False
  | .invokestatic n => match cf.2.2.2.1 n with
    | some (t, np, rt) => (match pops np [] st with | some (as, st') => st'.length ≤ 24 ∧ cwp (G (pc + len)) (Th pc) rt L st' (rec t as σ) | _ => False)
    | _ => False
  | .ireturn => match st with | [.inl v] => Ret (some v) σ | _ => False
  | .return_ => match st with | [] => Ret none σ | _ => False
  | _ => False
/-- a predicate on the machine's points that its instructions keep -/
def GOK (cf : CF) (rec : RC) (tb : TB) (G : Nat → LL → List AV → SS → Prop) (Ret : Option Int32 → SS → Prop) (Th : Nat → LL → SS → Prop) : Prop :=
  ∀ (pc : Nat) (i : Instr) (len : Nat) (D : List Nat), alook tb pc = some (i, len, D) → ∀ (L : LL) (st : List AV) (σ : SS), awp cf rec G Ret Th pc i len L st σ → G pc L st σ
