/-! running statement by statement: what comes behind is kept as a list -/
def run : List ZX → KT → KT
  | [], K => K
  | z :: zs, K => fun L A => rn (z L A) (run zs K) nk nk
def kS (k : Nat) (zs : List ZX) (K : KT) (L : AL) (r : Option (Option V × AS)) : Option (Option V × AS) := ab r fun v A => run zs K (va_up L k v) A
def kE (zs : List ZX) (K : KT) (L : AL) (r : Option (Option V × AS)) : Option (Option V × AS) := ab r fun _ A => run zs K L A
def kI (a b : ZX) (zs : List ZX) (K : KT) (L : AL) (r : Option (Option Bool × AS)) : Option (Option V × AS) := ab r fun q A => if q = true then run (a :: zs) K L A else run (b :: zs) K L A
def kPF (k : Nat) (zs : List ZX) (K : KT) (L : AL) (r : Option (Option V × AS)) : Option (Option V × AS) := ab r fun v A => og (vput A k v) (run zs K L)
def kOF (op : Int32 → Int32 → Int32) (k : Nat) (i : Int32) (zs : List ZX) (K : KT) (L : AL) (r : Option (Option V × AS)) : Option (Option V × AS) := ab r fun v A => og ((vbin op (.int i) v).bind (vput A k)) (run zs K L)
def kOU (op : Int32 → Int32 → Int32) (k : Nat) (i : Int32) (zs : List ZX) (K : KT) (L : AL) (r : Option (Option V × AS)) : Option (Option V × AS) := ab r fun v A => og ((vbin op (.int i) v).bind (vputU A k)) (run zs K L)
def kPS (k : Nat) (zs : List ZX) (K : KT) (L : AL) (r : Option (Option V × AS)) : Option (Option V × AS) := ab r fun v A => og (vsize A k v) (run zs K L)
def kOS (op : Int32 → Int32 → Int32) (k : Nat) (i : Int32) (zs : List ZX) (K : KT) (L : AL) (r : Option (Option V × AS)) : Option (Option V × AS) := ab r fun v A => og ((vbin op (.int i) v).bind (vsize A k)) (run zs K L)
def kAD (k : Nat) (zs : List ZX) (K : KT) (L : AL) (r : Option (Option V × AS)) : Option (Option V × AS) := ab r fun v A => og (vadd A k v) (run zs K L)
def kT2 (k : Nat) (j : V) (zs : List ZX) (K : KT) (L : AL) (r : Option (Option V × AS)) : Option (Option V × AS) := ab r fun v A => og (vset A k j v) (run zs K L)
def kT1 (k : Nat) (a : AX) (zs : List ZX) (K : KT) (L : AL) (r : Option (Option V × AS)) : Option (Option V × AS) := ab r fun j A => kT2 k j zs K L (a L A)
def kB2 (k : Nat) (j : V) (zs : List ZX) (K : KT) (L : AL) (r : Option (Option V × AS)) : Option (Option V × AS) := ab r fun v A => if isB8 v = true then og (vset A k j v) (run zs K L) else none
def kB1 (k : Nat) (a : AX) (zs : List ZX) (K : KT) (L : AL) (r : Option (Option V × AS)) : Option (Option V × AS) := ab r fun j A => kB2 k j zs K L (a L A)
def kSw (sel : Int32 → ZX) (zs : List ZX) (K : KT) (L : AL) (r : Option (Option V × AS)) : Option (Option V × AS) := ab r fun v A => match vI v with
  | some i => rn (sel i L A) (run zs K) (run zs K) nk
  | none => none
section RUN
variable {zs : List ZX} {K : KT} {L : AL} {A : AS} {r : Option (Option V × AS)}
theorem amth_run (inst rt isb : Bool) (np : Nat) (z : ZX) (vs : List V) (A : AS) : amth inst rt isb np z vs A = if vs.length = np then fin rt isb (run [z] nk (A0of inst vs) A) else none := amth_eq inst rt isb np z vs A
theorem run_nil : run [] K L A = K L A := rfl
theorem run_rn (z : ZX) : run (z :: zs) K L A = rn (z L A) (run zs K) nk nk := rfl
theorem run_seq (a b : ZX) : run (zSeq a b :: zs) K L A = run (a :: b :: zs) K L A := rn_seq a b
theorem run_skip : run (zSkip :: zs) K L A = run zs K L A := rfl
theorem run_ret0 : run (zRet0 :: zs) K L A = some (some (.int 0), A) := rfl
theorem run_ret (e : AX) : run (zRet e :: zs) K L A = e L A := by
  rw [run_rn, rn_ret]
  match e L A with
  | none => rfl
  | some (none, A) => rfl
  | some (some v, A) => rfl
theorem run_set (k : Nat) (e : AX) : run (zSet k e :: zs) K L A = kS k zs K L (e L A) := rn_set k e
theorem run_inc (k : Nat) (d : Int32) : run (zInc k d :: zs) K L A = kS k zs K L (aok (vbin oAdd (L k) (.int d)) A) := rn_inc k d
theorem run_ex (e : AX) : run (zEx e :: zs) K L A = kE zs K L (e L A) := rn_ex e
theorem run_if (c : BX) (a b : ZX) : run (zIf c a b :: zs) K L A = kI a b zs K L (c L A) := rn_if c a b
theorem run_putF (k : Nat) (e : AX) : run (zPutF k e :: zs) K L A = kPF k zs K L (e L A) := rn_putF k e
theorem run_opF (op : Int32 → Int32 → Int32) (k : Nat) (e : AX) : run (zOpF op k e :: zs) K L A = kOF op k (A.1 k) zs K L (e L A) := rn_opF op k e
theorem run_opU (op : Int32 → Int32 → Int32) (k : Nat) (e : AX) : run (zOpU op k e :: zs) K L A = kOU op k (A.1 k) zs K L (e L A) := rn_opU op k e
theorem run_putS (k : Nat) (e : AX) : run (zPutS k e :: zs) K L A = kPS k zs K L (e L A) := rn_putS k e
theorem run_opS (op : Int32 → Int32 → Int32) (k : Nat) (e : AX) : run (zOpS op k e :: zs) K L A = kOS op k (nI (A.of k + (A.R k).length)) zs K L (e L A) := rn_opS op k e
theorem run_add (k : Nat) (e : AX) : run (zAdd k e :: zs) K L A = kAD k zs K L (e L A) := rn_add k e
theorem run_at (k : Nat) (i e : AX) : run (zAt k i e :: zs) K L A = kT1 k e zs K L (i L A) := rn_at k i e
theorem run_atB (k : Nat) (i e : AX) : run (zAtB k i e :: zs) K L A = kB1 k e zs K L (i L A) := rn_atB k i e
theorem run_sw (a : AX) (sel : Int32 → ZX) : run (zSw a sel :: zs) K L A = kSw sel zs K L (a L A) := rn_sw a sel
theorem kS_ok (k : Nat) (v : V) : kS k zs K L (some (some v, A)) = run zs K (va_up L k v) A := rfl
theorem kS_no (k : Nat) : kS k zs K L (some (none, A)) = some (none, A) := rfl
theorem kS_ab (k : Nat) : kS k zs K L r = ab r fun v A => run zs K (va_up L k v) A := rfl
theorem kS_ite (k : Nat) (q : Prop) [Decidable q] (x y : Option (Option V × AS)) : kS k zs K L (if q then x else y) = if q then kS k zs K L x else kS k zs K L y := by split <;> rfl
theorem kE_ok (v : V) : kE zs K L (some (some v, A)) = run zs K L A := rfl
theorem kE_no : kE zs K L (some (none, A)) = some (none, A) := rfl
theorem kE_ab : kE zs K L r = ab r fun _ A => run zs K L A := rfl
theorem kE_ite (q : Prop) [Decidable q] (x y : Option (Option V × AS)) : kE zs K L (if q then x else y) = if q then kE zs K L x else kE zs K L y := by split <;> rfl
theorem kI_t (a b : ZX) : kI a b zs K L (some (some true, A)) = run (a :: zs) K L A := rfl
theorem kI_f (a b : ZX) : kI a b zs K L (some (some false, A)) = run (b :: zs) K L A := rfl
theorem kI_no (a b : ZX) : kI a b zs K L (some (none, A)) = some (none, A) := rfl
theorem kPF_ok (k : Nat) (i : Int32) : kPF k zs K L (some (some (.int i), A)) = run zs K L (apF A k i) := rfl
theorem kPF_ab (k : Nat) : kPF k zs K L r = ab r fun v A => og (vput A k v) (run zs K L) := rfl
theorem kOF_ok (op : Int32 → Int32 → Int32) (k : Nat) (i0 i : Int32) : kOF op k i0 zs K L (some (some (.int i), A)) = run zs K L (apF A k (op i0 i)) := rfl
theorem kPS_ok (k : Nat) (v : V) : kPS k zs K L (some (some v, A)) = og (vsize A k v) (run zs K L) := rfl
theorem kOS_ok (op : Int32 → Int32 → Int32) (k : Nat) (i0 i : Int32) : kOS op k i0 zs K L (some (some (.int i), A)) = og (vsize A k (.int (op i0 i))) (run zs K L) := rfl
theorem kAD_ok (k : Nat) (v : V) : kAD k zs K L (some (some v, A)) = og (vadd A k v) (run zs K L) := rfl
theorem kAD_no (k : Nat) : kAD k zs K L (some (none, A)) = some (none, A) := rfl
theorem kAD_ab (k : Nat) : kAD k zs K L r = ab r fun v A => og (vadd A k v) (run zs K L) := rfl
theorem kT1_ok (k : Nat) (a : AX) (v : V) : kT1 k a zs K L (some (some v, A)) = kT2 k v zs K L (a L A) := rfl
theorem kT2_ok (k : Nat) (j v : V) : kT2 k j zs K L (some (some v, A)) = og (vset A k j v) (run zs K L) := rfl
theorem kB1_ok (k : Nat) (a : AX) (v : V) : kB1 k a zs K L (some (some v, A)) = kB2 k v zs K L (a L A) := rfl
theorem kB2_ok (k : Nat) (j v : V) : kB2 k j zs K L (some (some v, A)) = if isB8 v = true then og (vset A k j v) (run zs K L) else none := rfl
theorem kSw_ok (sel : Int32 → ZX) (i : Int32) : kSw sel zs K L (some (some (.int i), A)) = rn (sel i L A) (run zs K) (run zs K) nk := rfl
end RUN
