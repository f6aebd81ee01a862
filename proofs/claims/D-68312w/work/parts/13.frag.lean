/-! structured code: expressions, conditions, statements as functions; their fragments of code -/
abbrev EX : Type := LL → SS → Option (Option Int32 × LL × SS)
abbrev CX : Type := LL → SS → Option (Option Bool × LL × SS)
abbrev SX : Type := LL → SS → Option ((Nat × Int32) × LL × SS)
def bnd {α β : Type} (r : Option (Option α × LL × SS)) (f : α → LL → SS → Option (Option β × LL × SS)) : Option (Option β × LL × SS) := match r with
  | none => none
  | some (none, L, σ) => some (none, L, σ)
  | some (some v, L, σ) => f v L σ
def eK (v : Int32) : EX := fun L σ => some (some v, L, σ)
def eL (k : Nat) : EX := fun L σ => some (some (L k), L, σ)
def eF (k : Nat) : EX := fun L σ => some (some (σ.1 k), L, σ)
def eSz (k : Nat) : EX := fun L σ => some (some (nI (σ.2.1 k).length), L, σ)
def eBin (op : Int32 → Int32 → Int32) (a b : EX) : EX := fun L σ => bnd (a L σ) fun x L σ => bnd (b L σ) fun y L σ => some (some (op x y), L, σ)
def eDiv (op : Int32 → Int32 → Int32) (a b : EX) : EX := fun L σ => bnd (a L σ) fun x L σ => bnd (b L σ) fun y L σ => if y = 0 then none else some (some (op x y), L, σ)
def oAdd (x y : Int32) : Int32 := x + y
def oSub (x y : Int32) : Int32 := x - y
def oMul (x y : Int32) : Int32 := x * y
def oAnd (x y : Int32) : Int32 := x &&& y
def oShr (x y : Int32) : Int32 := x >>> (y &&& 31)
def oDiv (x y : Int32) : Int32 := x / y
def oRem (x y : Int32) : Int32 := x - x / y * y
def eB (a : EX) : EX := fun L σ => bnd (a L σ) fun x L σ => some (some x.toInt8.toInt32, L, σ)
def eAt (k : Nat) (a : EX) : EX := fun L σ => bnd (a L σ) fun j L' σ' => if σ'.2.2.1 k = σ.2.2.1 k then (match ix (σ'.2.1 k) j with | some v => some (some v, L', σ') | none => none) else none
def eArr (k : Nat) (a : EX) : EX := fun L σ => bnd (a L σ) fun j L' σ' => match ix (σ'.2.1 k) j with | some v => some (some v, L', σ') | none => none
def eArgs : List EX → LL → SS → Option (Option (List Int32) × LL × SS)
  | [], L, σ => some (some [], L, σ)
  | a :: t, L, σ => bnd (a L σ) fun v L σ => bnd (eArgs t L σ) fun vs L σ => some (some (v :: vs), L, σ)
def ofR (L : LL) (r : Option (Option Int32 × SS)) : Option (Option Int32 × LL × SS) := match r with
  | none => none
  | some (v, σ) => some (v, L, σ)
def eCall (rec : RC) (t : Nat) (as : List EX) : EX := fun L σ => bnd (eArgs as L σ) fun vs L σ => ofR L (rec t vs σ)
def ePop (k : Nat) : EX := fun L σ => match rowPop σ k with | some (v, σ') => some (some v, L, σ') | none => none
def eLI (k : Nat) (d : Int32) : EX := fun L σ => some (some (L k), va_up L k (L k + d), σ)
def eFI (k : Nat) (d : Int32) : EX := fun L σ => some (some (σ.1 k), L, putF σ k (σ.1 k + d))
def eIf (c : CX) (a b : EX) : EX := fun L σ => bnd (c L σ) fun q L σ => if q then a L σ else b L σ
def cCmp (cd : ClassFile.Cond) (a b : EX) : CX := fun L σ => bnd (a L σ) fun x L σ => bnd (b L σ) fun y L σ => some (some (holdC cd x y), L, σ)
def cZ (cd : ClassFile.Cond) (a : EX) : CX := fun L σ => bnd (a L σ) fun x L σ => some (some (holdC cd x 0), L, σ)
def cAnd (a b : CX) : CX := fun L σ => bnd (a L σ) fun x L σ => if x then b L σ else some (some false, L, σ)
def cOr (a b : CX) : CX := fun L σ => bnd (a L σ) fun x L σ => if x then some (some true, L, σ) else b L σ
def cNot (a : CX) : CX := fun L σ => bnd (a L σ) fun x L σ => some (some (!x), L, σ)
def cTT : CX := fun L σ => some (some true, L, σ)
def cIf (c a b : CX) : CX := fun L σ => bnd (c L σ) fun q L σ => if q then a L σ else b L σ
/-- statements: 0 goes on, 1 answers, 2 throws, 3 breaks, 4 continues -/
def sbnd {α : Type} (r : Option (Option α × LL × SS)) (f : α → LL → SS → Option ((Nat × Int32) × LL × SS)) : Option ((Nat × Int32) × LL × SS) := match r with
  | none => none
  | some (none, L, σ) => some ((2, 0), L, σ)
  | some (some v, L, σ) => f v L σ
def sgo (L : LL) (r : Option SS) : Option ((Nat × Int32) × LL × SS) := match r with
  | none => none
  | some σ => some ((0, 0), L, σ)
def sSkip : SX := fun L σ => some ((0, 0), L, σ)
def sSeq (a b : SX) : SX := fun L σ => match a L σ with
  | none => none
  | some (f, L', σ') => if f.1 = 0 then b L' σ' else some (f, L', σ')
def sIf (c : CX) (a b : SX) : SX := fun L σ => sbnd (c L σ) fun q L σ => if q then a L σ else b L σ
def sSet (k : Nat) (a : EX) : SX := fun L σ => sbnd (a L σ) fun v L σ => some ((0, 0), va_up L k v, σ)
def sInc (k : Nat) (d : Int32) : SX := fun L σ => some ((0, 0), va_up L k (L k + d), σ)
def sPutF (k : Nat) (a : EX) : SX := fun L σ => sbnd (a L σ) fun v L σ => some ((0, 0), L, putF σ k v)
def sPutZ (k : Nat) (a : EX) : SX := fun L σ => sbnd (a L σ) fun v L σ => if v = 0 ∨ v = 1 then some ((0, 0), L, putF σ k v) else none
def sOpF (op : Int32 → Int32 → Int32) (k : Nat) (a : EX) : SX := fun L σ => sbnd (a L σ) fun v L' σ' => some ((0, 0), L', putF σ' k (op (σ.1 k) v))
def sPutS (k : Nat) (a : EX) : SX := fun L σ => sbnd (a L σ) fun v L σ => sgo L (rowSize σ k v)
def sOpS (op : Int32 → Int32 → Int32) (k : Nat) (a : EX) : SX := fun L σ => sbnd (a L σ) fun v L' σ' => sgo L' (rowSize σ' k (op (nI (σ.2.1 k).length) v))
def sAt (k : Nat) (i a : EX) : SX := fun L σ => sbnd (i L σ) fun j L1 σ1 => sbnd (a L1 σ1) fun v L2 σ2 => if σ2.2.2.1 k = σ.2.2.1 k then sgo L2 (rowSet σ2 k j v) else none
def sArr (k : Nat) (i a : EX) : SX := fun L σ => sbnd (i L σ) fun j L1 σ1 => sbnd (a L1 σ1) fun v L2 σ2 => sgo L2 (rowSet σ2 k j v)
def sArrB (k : Nat) (i a : EX) : SX := fun L σ => sbnd (i L σ) fun j L1 σ1 => sbnd (a L1 σ1) fun v L2 σ2 => if v.toInt8.toInt32 = v then sgo L2 (rowSet σ2 k j v) else none
def sAdd (k : Nat) (a : EX) : SX := fun L σ => sbnd (a L σ) fun v L σ => sgo L (rowAdd σ k v)
def sSwap (k : Nat) (i j : EX) : SX := fun L σ => sbnd (i L σ) fun x L σ => sbnd (j L σ) fun y L σ => sgo L (rowSwap σ k x y)
def sEx (a : EX) : SX := fun L σ => sbnd (a L σ) fun _ L σ => some ((0, 0), L, σ)
def sRet (a : EX) : SX := fun L σ => sbnd (a L σ) fun v L σ => some ((1, v), L, σ)
def sRet0 : SX := fun L σ => some ((1, 0), L, σ)
def sBrk : SX := fun L σ => some ((3, 0), L, σ)
def sCnt : SX := fun L σ => some ((4, 0), L, σ)
def sWh : Nat → CX → SX → SX → SX
  | 0, _, _, _ => fun _ _ => none
  | n + 1, c, b, st => fun L σ => sbnd (c L σ) fun q L σ => if q then (match b L σ with
      | none => none
      | some (f, L, σ) => if f.1 = 0 ∨ f.1 = 4 then (match st L σ with
          | none => none
          | some (g, L, σ) => if g.1 = 0 then sWh n c b st L σ else some (g, L, σ))
        else if f.1 = 3 then some ((0, 0), L, σ) else some (f, L, σ)) else some ((0, 0), L, σ)
def sDo : Nat → SX → CX → SX
  | 0, _, _ => fun _ _ => none
  | n + 1, b, c => fun L σ => match b L σ with
    | none => none
    | some (f, L, σ) => if f.1 = 0 ∨ f.1 = 4 then (sbnd (c L σ) fun q L σ => if q then sDo n b c L σ else some ((0, 0), L, σ)) else if f.1 = 3 then some ((0, 0), L, σ) else some (f, L, σ)
/-- a switch whose cases end by themselves -/
def sSw (a : EX) (sel : Int32 → SX) : SX := fun L σ => sbnd (a L σ) fun v L σ => match sel v L σ with
  | none => none
  | some (f, L, σ) => if f.1 = 3 then some ((0, 0), L, σ) else some (f, L, σ)
def sTry (b h : SX) : SX := fun L σ => match b L σ with
  | none => none
  | some (f, L', σ') => if f.1 = 2 then h L' σ' else some (f, L', σ')
abbrev LN : Nat := 100000
/-- a method by its body -/
def mth (inst rt isb : Bool) (np : Nat) (b : SX) (as : List Int32) (σ : SS) : Option (Option Int32 × SS) := if as.length = np then (match b (L0of inst as) σ with
  | some ((1, v), _, σ') => if isb && !(decide (v = 0) || decide (v = 1)) then none else some (some (if rt then v else 0), σ')
  | some ((2, _), _, σ') => some (none, σ')
  | _ => none) else none
def wpE {α : Type} (r : Option (Option α × LL × SS)) (K : α → LL → SS → Prop) (T : LL → SS → Prop) : Prop := match r with
  | none => False
  | some (none, L, σ) => T L σ
  | some (some v, L, σ) => K v L σ
theorem wpE_bnd {α β : Type} {r : Option (Option α × LL × SS)} {f : α → LL → SS → Option (Option β × LL × SS)} {K : β → LL → SS → Prop} {T : LL → SS → Prop} (h : wpE (bnd r f) K T) : wpE r (fun v L σ => wpE (f v L σ) K T) T := by
  match r, h with
  | some (none, L, σ), h => exact h
  | some (some v, L, σ), h => exact h
theorem wpE.imp {α : Type} {r : Option (Option α × LL × SS)} {K K' : α → LL → SS → Prop} {T : LL → SS → Prop} (h : wpE r K T) (hk : ∀ v L σ, K v L σ → K' v L σ) : wpE r K' T := by
  match r, h with
  | some (none, L, σ), h => exact h
  | some (some v, L, σ), h => exact hk v L σ h
/-- where a statement goes: on, answer, throw, break, continue -/
def wpS (r : Option ((Nat × Int32) × LL × SS)) (K : LL → SS → Prop) (R : Int32 → SS → Prop) (T B C : LL → SS → Prop) : Prop := match r with
  | none => False
  | some (f, L, σ) => if f.1 = 0 then K L σ else if f.1 = 1 then R f.2 σ else if f.1 = 2 then T L σ else if f.1 = 3 then B L σ else if f.1 = 4 then C L σ else False
theorem wpS_sbnd {α : Type} {r : Option (Option α × LL × SS)} {f : α → LL → SS → Option ((Nat × Int32) × LL × SS)} {K : LL → SS → Prop} {R : Int32 → SS → Prop} {T B C : LL → SS → Prop} (h : wpS (sbnd r f) K R T B C) : wpE r (fun v L σ => wpS (f v L σ) K R T B C) T := by
  match r, h with
  | some (none, L, σ), h => exact h
  | some (some v, L, σ), h => exact h
section FR
variable {cf : CF} {rec : RC} {tb : TB} {G : Nat → LL → List AV → SS → Prop} {Ret : Option Int32 → SS → Prop} {Rt : SS → Prop} {hs : Nat → Option Nat} {h : Option Nat} {d p m q t f : Nat} {a b : EX} {c c1 c2 : CX} {D D1 D2 D3 : List Nat}
def TT (G : Nat → LL → List AV → SS → Prop) (Rt : SS → Prop) (h : Option Nat) (L : LL) (σ : SS) : Prop := match h with
  | none => Rt σ
  | some z => G z L [.inr (0, 0)] σ
def EF (G : Nat → LL → List AV → SS → Prop) (Rt : SS → Prop) (h : Option Nat) (d p q : Nat) (a : EX) : Prop :=
  ∀ L st σ, st.length = d → wpE (a L σ) (fun v L' σ' => G q L' (.inl v :: st) σ') (TT G Rt h) → G p L st σ
def CE (G : Nat → LL → List AV → SS → Prop) (Rt : SS → Prop) (h : Option Nat) (d p t f : Nat) (c : CX) : Prop :=
  ∀ L st σ, st.length = d → wpE (c L σ) (fun b L' σ' => G (if b then t else f) L' st σ') (TT G Rt h) → G p L st σ
/-- several values, the last on top -/
def AE (G : Nat → LL → List AV → SS → Prop) (Rt : SS → Prop) (h : Option Nat) (d p q : Nat) (as : List EX) : Prop :=
  ∀ L st σ, st.length = d → wpE (eArgs as L σ) (fun vs L' σ' => G q L' ((vs.map Sum.inl).reverse ++ st) σ') (TT G Rt h) → G p L st σ
theorem f_ic (hG : GOK cf rec tb G Ret (ThJ G hs Rt)) {n : Int} {v : Int32} (ha : alook tb p = some (.iconst n, 1, D)) (hv : Int32.ofInt n = v) : EF G Rt h d p (p + 1) (eK v) := by
  subst hv
  exact fun L st σ _ hw => hG p _ _ _ ha L st σ hw
theorem f_bi (hG : GOK cf rec tb G Ret (ThJ G hs Rt)) {n : Int} {v : Int32} (ha : alook tb p = some (.bipush n, 2, D)) (hv : (Int8.ofInt n).toInt32 = v) : EF G Rt h d p (p + 2) (eK v) := by
  subst hv
  exact fun L st σ _ hw => hG p _ _ _ ha L st σ hw
theorem f_si (hG : GOK cf rec tb G Ret (ThJ G hs Rt)) {n : Int} {v : Int32} (ha : alook tb p = some (.sipush n, 3, D)) (hv : (Int16.ofInt n).toInt32 = v) : EF G Rt h d p (p + 3) (eK v) := by
  subst hv
  exact fun L st σ _ hw => hG p _ _ _ ha L st σ hw
theorem f_ld (hG : GOK cf rec tb G Ret (ThJ G hs Rt)) {n : Nat} {v : Int32} (ha : alook tb p = some (.ldc n, 2, D)) (hv : cf.2.2.2.2 n = some v) : EF G Rt h d p (p + 2) (eK v) := by
  intro L st σ _ hw
  refine hG p _ _ _ ha L st σ ?_
  simp only [awp, hv]
  exact hw
theorem f_l1 (hG : GOK cf rec tb G Ret (ThJ G hs Rt)) {k : Fin 4} (ha : alook tb p = some (.iload_n k, 1, D)) : EF G Rt h d p (p + 1) (eL k.val) := fun L st σ _ hw => hG p _ _ _ ha L st σ hw
theorem f_l2 (hG : GOK cf rec tb G Ret (ThJ G hs Rt)) {k : Nat} (ha : alook tb p = some (.iload k, 2, D)) : EF G Rt h d p (p + 2) (eL k) := fun L st σ _ hw => hG p _ _ _ ha L st σ hw
/-- the big object, its field -/
theorem g_this (hG : GOK cf rec tb G Ret (ThJ G hs Rt)) (ha : alook tb p = some (.aload_n 0, 1, D)) {L : LL} {st : List AV} {σ : SS} (hk : G (p + 1) L (.inr (1, 0) :: st) σ) : G p L st σ := hG p _ _ _ ha L st σ hk
theorem g_fi (hG : GOK cf rec tb G Ret (ThJ G hs Rt)) {n k : Nat} (ha : alook tb p = some (.getfield n, 3, D)) (hn : cf.2.1 n = some (0, k)) (hk : cf.1 k ≤ 1) {L : LL} {st : List AV} {σ : SS} (kk : G (p + 3) L (.inl (σ.1 k) :: st) σ) : G p L (.inr (1, 0) :: st) σ := by
  refine hG p _ _ _ ha L _ σ ?_
  simp only [awp, hn]
  rw [if_pos hk]
  exact kk
theorem g_fo (hG : GOK cf rec tb G Ret (ThJ G hs Rt)) {n k : Nat} (ha : alook tb p = some (.getfield n, 3, D)) (hn : cf.2.1 n = some (0, k)) (hk : 2 ≤ cf.1 k) {L : LL} {st : List AV} {σ : SS} (kk : G (p + 3) L (.inr (k + 2, 0) :: st) σ) : G p L (.inr (1, 0) :: st) σ := by
  refine hG p _ _ _ ha L _ σ ?_
  simp only [awp, hn]
  rw [if_neg (by omega)]
  exact kk
theorem g_rc (hG : GOK cf rec tb G Ret (ThJ G hs Rt)) {n k z : Nat} (ha : alook tb p = some (.getfield n, 3, D)) (hn : cf.2.1 n = some (1, z)) (hk : cf.1 k = 2 ∧ k < 23) {L : LL} {st : List AV} {σ : SS} (kk : G (p + 3) L (.inr (k + 2, σ.2.2.1 k + 1) :: st) σ) : G p L (.inr (k + 2, 0) :: st) σ := by
  refine hG p _ _ _ ha L _ σ ?_
  simp only [awp, hn]
  rw [if_pos hk]
  exact kk
theorem g_rs (hG : GOK cf rec tb G Ret (ThJ G hs Rt)) {n k z : Nat} (ha : alook tb p = some (.getfield n, 3, D)) (hn : cf.2.1 n = some (2, z)) (hk : cf.1 k = 2 ∧ k < 23) {L : LL} {st : List AV} {σ : SS} (kk : G (p + 3) L (.inl (nI (σ.2.1 k).length) :: st) σ) : G p L (.inr (k + 2, 0) :: st) σ := by
  refine hG p _ _ _ ha L _ σ ?_
  simp only [awp, hn]
  rw [if_pos hk]
  exact kk
theorem f_F (hG : GOK cf rec tb G Ret (ThJ G hs Rt)) {n k : Nat} (h0 : alook tb p = some (.aload_n 0, 1, D)) (h1 : alook tb (p + 1) = some (.getfield n, 3, D1)) (hn : cf.2.1 n = some (0, k)) (hk : cf.1 k ≤ 1) : EF G Rt h d p (p + 4) (eF k) :=
  fun _ _ _ _ hw => g_this hG h0 (g_fi hG h1 hn hk hw)
theorem f_Sz (hG : GOK cf rec tb G Ret (ThJ G hs Rt)) {n n2 k z : Nat} (h0 : alook tb p = some (.aload_n 0, 1, D)) (h1 : alook tb (p + 1) = some (.getfield n, 3, D1)) (h2 : alook tb (p + 4) = some (.getfield n2, 3, D2)) (hn : cf.2.1 n = some (0, k)) (hn2 : cf.2.1 n2 = some (2, z)) (hk : cf.1 k = 2 ∧ k < 23) : EF G Rt h d p (p + 7) (eSz k) :=
  fun _ _ _ _ hw => g_this hG h0 (g_fo hG h1 hn (by omega) (g_rs hG h2 hn2 hk hw))
theorem f_2 {op : Int32 → Int32 → Int32} (ha : EF G Rt h d p m a) (hb : EF G Rt h (d + 1) m q b) (hi : ∀ L st σ x y, G t L (.inl (op x y) :: st) σ → G q L (.inl y :: .inl x :: st) σ) : EF G Rt h d p t (eBin op a b) := by
  intro L st σ hd hw
  refine ha L st σ hd ((wpE_bnd hw).imp fun x L1 σ1 hw => ?_)
  exact hb L1 (.inl x :: st) σ1 (by simp [hd]) ((wpE_bnd hw).imp fun y L2 σ2 hw => hi L2 st σ2 x y hw)
theorem f_add (hG : GOK cf rec tb G Ret (ThJ G hs Rt)) (ha : EF G Rt h d p m a) (hb : EF G Rt h (d + 1) m q b) (hi : alook tb q = some (.iadd, 1, D)) : EF G Rt h d p (q + 1) (eBin oAdd a b) := f_2 ha hb fun L st σ _ _ hk => hG q _ _ _ hi L _ σ hk
theorem f_sub (hG : GOK cf rec tb G Ret (ThJ G hs Rt)) (ha : EF G Rt h d p m a) (hb : EF G Rt h (d + 1) m q b) (hi : alook tb q = some (.isub, 1, D)) : EF G Rt h d p (q + 1) (eBin oSub a b) := f_2 ha hb fun L st σ _ _ hk => hG q _ _ _ hi L _ σ hk
theorem f_mul (hG : GOK cf rec tb G Ret (ThJ G hs Rt)) (ha : EF G Rt h d p m a) (hb : EF G Rt h (d + 1) m q b) (hi : alook tb q = some (.imul, 1, D)) : EF G Rt h d p (q + 1) (eBin oMul a b) := f_2 ha hb fun L st σ _ _ hk => hG q _ _ _ hi L _ σ hk
theorem f_and (hG : GOK cf rec tb G Ret (ThJ G hs Rt)) (ha : EF G Rt h d p m a) (hb : EF G Rt h (d + 1) m q b) (hi : alook tb q = some (.iand, 1, D)) : EF G Rt h d p (q + 1) (eBin oAnd a b) := f_2 ha hb fun L st σ _ _ hk => hG q _ _ _ hi L _ σ hk
theorem f_shr (hG : GOK cf rec tb G Ret (ThJ G hs Rt)) (ha : EF G Rt h d p m a) (hb : EF G Rt h (d + 1) m q b) (hi : alook tb q = some (.ishr, 1, D)) : EF G Rt h d p (q + 1) (eBin oShr a b) := f_2 ha hb fun L st σ _ _ hk => hG q _ _ _ hi L _ σ hk
theorem f_2d {op : Int32 → Int32 → Int32} (ha : EF G Rt h d p m a) (hb : EF G Rt h (d + 1) m q b) (hi : ∀ L st σ x y, ¬ y = 0 → G t L (.inl (op x y) :: st) σ → G q L (.inl y :: .inl x :: st) σ) : EF G Rt h d p t (eDiv op a b) := by
  intro L st σ hd hw
  refine ha L st σ hd ((wpE_bnd hw).imp fun x L1 σ1 hw => ?_)
  refine hb L1 (.inl x :: st) σ1 (by simp [hd]) ((wpE_bnd hw).imp fun y L2 σ2 hw => ?_)
  by_cases hy : y = 0
  · rw [if_pos hy] at hw; exact hw.elim
  · rw [if_neg hy] at hw
    exact hi L2 st σ2 x y hy hw
theorem f_div (hG : GOK cf rec tb G Ret (ThJ G hs Rt)) (ha : EF G Rt h d p m a) (hb : EF G Rt h (d + 1) m q b) (hi : alook tb q = some (.idiv, 1, D)) : EF G Rt h d p (q + 1) (eDiv oDiv a b) := f_2d ha hb fun L st σ _ _ hy hk => hG q _ _ _ hi L _ σ (by simp only [awp]; rw [if_neg hy]; exact hk)
theorem f_rem (hG : GOK cf rec tb G Ret (ThJ G hs Rt)) (ha : EF G Rt h d p m a) (hb : EF G Rt h (d + 1) m q b) (hi : alook tb q = some (.irem, 1, D)) : EF G Rt h d p (q + 1) (eDiv oRem a b) := f_2d ha hb fun L st σ _ _ hy hk => hG q _ _ _ hi L _ σ (by simp only [awp]; rw [if_neg hy]; exact hk)
theorem f_B (hG : GOK cf rec tb G Ret (ThJ G hs Rt)) (ha : EF G Rt h d p q a) (hi : alook tb q = some (.i2b, 1, D)) : EF G Rt h d p (q + 1) (eB a) := by
  intro L st σ hd hw
  exact ha L st σ hd ((wpE_bnd hw).imp fun x L1 σ1 hw => hG q _ _ _ hi L1 _ σ1 hw)
theorem f_At (hG : GOK cf rec tb G Ret (ThJ G hs Rt)) {n n2 k z : Nat} (h0 : alook tb p = some (.aload_n 0, 1, D)) (h1 : alook tb (p + 1) = some (.getfield n, 3, D1)) (h2 : alook tb (p + 4) = some (.getfield n2, 3, D2)) (hn : cf.2.1 n = some (0, k)) (hn2 : cf.2.1 n2 = some (1, z)) (hk : cf.1 k = 2 ∧ k < 23) (ha : EF G Rt h (d + 1) (p + 7) q a) (hi : alook tb q = some (.iaload, 1, D3)) : EF G Rt h d p (q + 1) (eAt k a) := by
  intro L st σ hd hw
  refine g_this hG h0 (g_fo hG h1 hn (by omega) (g_rc hG h2 hn2 hk ?_))
  refine ha L _ σ (by simp [hd]) ((wpE_bnd hw).imp fun x L1 σ1 hw => ?_)
  refine hG q _ _ _ hi L1 _ σ1 ?_
  simp only [awp]
  split at hw
  · next hc =>
    rw [if_pos ⟨hk.1, hk.2, hc⟩]
    split at hw
    · next hv => rw [hv]; exact hw
    · exact hw.elim
  · exact hw.elim
theorem f_Ar (hG : GOK cf rec tb G Ret (ThJ G hs Rt)) {n k : Nat} (h0 : alook tb p = some (.aload_n 0, 1, D)) (h1 : alook tb (p + 1) = some (.getfield n, 3, D1)) (hn : cf.2.1 n = some (0, k)) (hk : cf.1 k = 4 ∧ k < 23) (ha : EF G Rt h (d + 1) (p + 4) q a) (hi : alook tb q = some (.iaload, 1, D3)) : EF G Rt h d p (q + 1) (eArr k a) := by
  intro L st σ hd hw
  refine g_this hG h0 (g_fo hG h1 hn (by omega) ?_)
  refine ha L _ σ (by simp [hd]) ((wpE_bnd hw).imp fun x L1 σ1 hw => ?_)
  refine hG q _ _ _ hi L1 _ σ1 ?_
  simp only [awp]
  rw [if_pos hk]
  split at hw
  · next hv => rw [hv]; exact hw
  · exact hw.elim
theorem f_Ab (hG : GOK cf rec tb G Ret (ThJ G hs Rt)) {n k : Nat} (h0 : alook tb p = some (.aload_n 0, 1, D)) (h1 : alook tb (p + 1) = some (.getfield n, 3, D1)) (hn : cf.2.1 n = some (0, k)) (hk : cf.1 k = 3 ∧ k < 23) (ha : EF G Rt h (d + 1) (p + 4) q a) (hi : alook tb q = some (.baload, 1, D3)) : EF G Rt h d p (q + 1) (eArr k a) := by
  intro L st σ hd hw
  refine g_this hG h0 (g_fo hG h1 hn (by omega) ?_)
  refine ha L _ σ (by simp [hd]) ((wpE_bnd hw).imp fun x L1 σ1 hw => ?_)
  refine hG q _ _ _ hi L1 _ σ1 ?_
  simp only [awp]
  rw [if_pos hk]
  split at hw
  · next hv => rw [hv]; exact hw
  · exact hw.elim
theorem f_a0 : AE G Rt h d p p [] := fun _ _ _ _ hw => hw
theorem f_a {t : List EX} (ha : EF G Rt h d p m a) (ht : AE G Rt h (d + 1) m q t) : AE G Rt h d p q (a :: t) := by
  intro L st σ hd hw
  refine ha L st σ hd ((wpE_bnd hw).imp fun x L1 σ1 hw => ?_)
  refine ht L1 (.inl x :: st) σ1 (by simp [hd]) ((wpE_bnd hw).imp fun vs L2 σ2 hw => ?_)
  have : (List.map Sum.inl (x :: vs)).reverse ++ st = (List.map (Sum.inl : Int32 → AV) vs).reverse ++ .inl x :: st := by simp
  rw [← this]
  exact hw
theorem pops_app : ∀ (us acc : List Int32) (st : List AV), pops us.length acc (us.map Sum.inl ++ st) = some (us.reverse ++ acc, st) := by
  intro us
  induction us with
  | nil => intro acc st; rfl
  | cons x t ih =>
    intro acc st
    show pops t.length (x :: acc) (List.map Sum.inl t ++ st) = _
    rw [ih]
    simp
theorem pops_rev (vs acc : List Int32) (st : List AV) : pops vs.length acc ((vs.map Sum.inl).reverse ++ st) = some (vs ++ acc, st) := by
  have := pops_app vs.reverse acc st
  rw [List.length_reverse, List.map_reverse, List.reverse_reverse] at this
  exact this
theorem eArgs_len : ∀ (as : List EX) (L : LL) (σ : SS) (vs : List Int32) (L' : LL) (σ' : SS), eArgs as L σ = some (some vs, L', σ') → vs.length = as.length := by
  intro as
  induction as with
  | nil =>
    intro L σ vs L' σ' h
    have := Option.some.inj h
    have : some [] = some vs := congrArg Prod.fst this
    rw [← Option.some.inj this]
    rfl
  | cons a t ih =>
    intro L σ vs L' σ' h
    unfold eArgs at h
    match ha : a L σ, h with
    | some (some v, L1, σ1), h =>
      have h : (bnd (eArgs t L1 σ1) fun vs L σ => some (some (v :: vs), L, σ)) = some (some vs, L', σ') := h
      match hb : eArgs t L1 σ1, h with
      | some (some ws, L2, σ2), h =>
        have := Option.some.inj h
        have : some (v :: ws) = some vs := congrArg Prod.fst this
        rw [← Option.some.inj this, List.length_cons, List.length_cons, ih _ _ _ _ _ hb]
      | some (none, L2, σ2), h => cases h
      | none, h => cases h
    | some (none, L1, σ1), h => cases h
    | none, h => cases h
theorem wpE.keep {α : Type} {r : Option (Option α × LL × SS)} {K K' : α → LL → SS → Prop} {T : LL → SS → Prop} (h : wpE r K T) (hk : ∀ v L σ, r = some (some v, L, σ) → K v L σ → K' v L σ) : wpE r K' T := by
  match r, h with
  | some (none, L, σ), h => exact h
  | some (some v, L, σ), h => exact hk v L σ rfl h
/-- a call of an own method -/
theorem f_call (hG : GOK cf rec tb G Ret (ThJ G hs Rt)) {n tg np : Nat} {as : List EX} (h0 : alook tb p = some (.aload_n 0, 1, D)) (ha : AE G Rt h (d + 1) (p + 1) q as) (hi : alook tb q = some (.invokevirtual n, 3, D1)) (hn : cf.2.2.1 n = some (0, tg, np, true)) (hl : as.length = np) (hd24 : Nat.ble d 24 = true) (hh : hs q = h) : EF G Rt h d p (q + 3) (eCall rec tg as) := by
  intro L st σ hd hw
  refine g_this hG h0 (ha L _ σ (by simp [hd]) ((wpE_bnd hw).keep fun vs L1 σ1 hvs hw => ?_))
  refine hG q _ _ _ hi L1 _ σ1 ?_
  have hlen := eArgs_len _ _ _ _ _ _ hvs
  simp only [awp, hn]
  rw [← hl, ← hlen, pops_rev, List.append_nil]
  refine ⟨by rw [hd]; exact Nat.le_of_ble_eq_true hd24, ?_⟩
  match hr : rec tg vs σ1, hw with
  | none, hw => exact hw.elim
  | some (none, σ2), hw =>
    show ThJ G hs Rt q L1 σ2
    unfold ThJ
    rw [hh]
    exact hw
  | some (some v, σ2), hw => exact hw
/-- a call of an own method that answers nothing, or whose answer goes -/
theorem g_callv (hG : GOK cf rec tb G Ret (ThJ G hs Rt)) {n tg np : Nat} {as : List EX} (h0 : alook tb p = some (.aload_n 0, 1, D)) (ha : AE G Rt h (d + 1) (p + 1) q as) (hi : alook tb q = some (.invokevirtual n, 3, D1)) (hn : cf.2.2.1 n = some (0, tg, np, false)) (hl : as.length = np) (hd24 : Nat.ble d 24 = true) (hh : hs q = h) {L : LL} {st : List AV} {σ : SS} (hd : st.length = d) (hw : wpE (eCall rec tg as L σ) (fun _ L' σ' => G (q + 3) L' st σ') (TT G Rt h)) : G p L st σ := by
  refine g_this hG h0 (ha L _ σ (by simp [hd]) ((wpE_bnd hw).keep fun vs L1 σ1 hvs hw => ?_))
  refine hG q _ _ _ hi L1 _ σ1 ?_
  have hlen := eArgs_len _ _ _ _ _ _ hvs
  simp only [awp, hn]
  rw [← hl, ← hlen, pops_rev, List.append_nil]
  refine ⟨by rw [hd]; exact Nat.le_of_ble_eq_true hd24, ?_⟩
  match hr : rec tg vs σ1, hw with
  | none, hw => exact hw.elim
  | some (none, σ2), hw =>
    show ThJ G hs Rt q L1 σ2
    unfold ThJ
    rw [hh]
    exact hw
  | some (some v, σ2), hw => exact hw
theorem f_calls (hG : GOK cf rec tb G Ret (ThJ G hs Rt)) {n tg np : Nat} {as : List EX} (ha : AE G Rt h d p q as) (hi : alook tb q = some (.invokestatic n, 3, D1)) (hn : cf.2.2.2.1 n = some (tg, np, true)) (hl : as.length = np) (hd24 : Nat.ble d 24 = true) (hh : hs q = h) : EF G Rt h d p (q + 3) (eCall rec tg as) := by
  intro L st σ hd hw
  refine ha L _ σ hd ((wpE_bnd hw).keep fun vs L1 σ1 hvs hw => ?_)
  refine hG q _ _ _ hi L1 _ σ1 ?_
  have hlen := eArgs_len _ _ _ _ _ _ hvs
  simp only [awp, hn]
  rw [← hl, ← hlen, pops_rev, List.append_nil]
  refine ⟨by rw [hd]; exact Nat.le_of_ble_eq_true hd24, ?_⟩
  match hr : rec tg vs σ1, hw with
  | none, hw => exact hw.elim
  | some (none, σ2), hw =>
    show ThJ G hs Rt q L1 σ2
    unfold ThJ
    rw [hh]
    exact hw
  | some (some v, σ2), hw => exact hw
theorem f_pop (hG : GOK cf rec tb G Ret (ThJ G hs Rt)) {n n2 k np : Nat} {rt : Bool} (h0 : alook tb p = some (.aload_n 0, 1, D)) (h1 : alook tb (p + 1) = some (.getfield n, 3, D1)) (h2 : alook tb (p + 4) = some (.invokevirtual n2, 3, D2)) (hn : cf.2.1 n = some (0, k)) (hn2 : cf.2.2.1 n2 = some (1, 1, np, rt)) (hk : cf.1 k = 2 ∧ k < 23) (hd24 : Nat.ble d 24 = true) : EF G Rt h d p (p + 7) (ePop k) := by
  intro L st σ hd hw
  refine g_this hG h0 (g_fo hG h1 hn (by omega) (hG _ _ _ _ h2 L _ σ ?_))
  simp only [awp, hn2]
  rw [if_pos ⟨hk.1, hk.2, by rw [hd]; exact Nat.le_of_ble_eq_true hd24⟩]
  unfold ePop at hw
  match hr : rowPop σ k, hw with
  | none, hw => exact hw.elim
  | some (v, σ'), hw => exact hw
theorem f_LI1 (hG : GOK cf rec tb G Ret (ThJ G hs Rt)) {k : Fin 4} {n : Int} {v : Int32} (h0 : alook tb p = some (.iload_n k, 1, D)) (h1 : alook tb (p + 1) = some (.iinc k.val n, 3, D1)) (hv : Int32.ofInt n = v) : EF G Rt h d p (p + 4) (eLI k.val v) := by
  subst hv
  intro L st σ _ hw
  exact hG p _ _ _ h0 L st σ (hG _ _ _ _ h1 L _ σ hw)
theorem f_LI2 (hG : GOK cf rec tb G Ret (ThJ G hs Rt)) {k : Nat} {n : Int} {v : Int32} (h0 : alook tb p = some (.iload k, 2, D)) (h1 : alook tb (p + 2) = some (.iinc k n, 3, D1)) (hv : Int32.ofInt n = v) : EF G Rt h d p (p + 5) (eLI k v) := by
  subst hv
  intro L st σ _ hw
  exact hG p _ _ _ h0 L st σ (hG _ _ _ _ h1 L _ σ hw)
theorem f_if (hc : CE G Rt h d p t f c) (ha : EF G Rt h d t m a) (hg : ∀ L st σ, G q L st σ → G m L st σ) (hb : EF G Rt h d f q b) : EF G Rt h d p q (eIf c a b) := by
  intro L st σ hd hw
  refine hc L st σ hd ((wpE_bnd hw).imp fun x L1 σ1 hw => ?_)
  cases x with
  | true => exact ha L1 st σ1 hd (wpE.imp hw fun v L2 σ2 hk => hg _ _ _ hk)
  | false => exact hb L1 st σ1 hd hw
theorem g_goto (hG : GOK cf rec tb G Ret (ThJ G hs Rt)) {off : Int} (ha : alook tb p = some (.goto off, 3, D)) (hj : jm p off = q) : ∀ L st σ, G q L st σ → G p L st σ := by
  subst hj
  exact fun L st σ hk => hG p _ _ _ ha L st σ hk
end FR
