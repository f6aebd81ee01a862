/-! contracts over the store; calls, ends and throws keep the points -/
def rmOf (n : Nat) (σ : SS) : Room := { frames := n + 12, cells := MXC - σ.2.2.2.1, slots := MXS - σ.2.2.2.2, locals := 80 * n + 500 }
def argV (inst : Bool) (o : Nat) (as : List Int32) : List Value := (if inst then [Value.ref o] else []) ++ as.map Value.int
def PreA (jc : JC) (kd : Nat → Nat) (w : WP) (av : (Nat → Nat) → List Value) (A : Nat → Nat) (σ : SS) : Array Value → State → Prop := fun v U => v = (av A).toArray ∧ WR kd w A σ U.heap ∧ KK jc w U ∧ σ.2.2.2.1 ≤ MXC ∧ σ.2.2.2.2 ≤ MXS
def outO (w : WP) (rt : Bool) (r : Option Int32) (o : Outcome) (t : State) : Prop := match r with
  | some v => o = .returned (if rt then some (.int v) else none)
  | none => ∃ x, o = .threw x ∧ isExc w.cE t.heap x
def PostA (kd : Nat → Nat) (w : WP) (rt : Bool) (A : Nat → Nat) (σ : SS) (r : Option Int32) (σ' : SS) : Array Value → State → Outcome → State → List Loc → Nat → Nat → Prop := fun _ st o t L k n =>
  (∃ A', WR kd w A' σ' t.heap ∧ AG A A' σ σ') ∧ outO w rt r o t ∧ FR w st.heap t.heap L ∧ k = σ'.2.2.2.1 - σ.2.2.2.1 ∧ n = σ'.2.2.2.2 - σ.2.2.2.2
/-- a method's contract: called with av, from the store σ it ends with r and the store σ' -/
def CTR (l : Launch) (jc : JC) (kd : Nat → Nat) (w : WP) (y : MethodName) (ws : List Cond) (av : (Nat → Nat) → List Value) (rt : Bool) (n : Nat) (σ : SS) (r : Option Int32) (σ' : SS) : Prop := ∀ A, MT l y ws (rmOf n σ) (PreA jc kd w av A σ) (PostA kd w rt A σ r σ')
/-- a method: its name, words, locals, parameters, whether it answers, whether it has an object -/
abbrev MF : Type := MethodName × List Cond × Nat × Nat × Bool × Bool
def MIw (C : String) (y : MethodName) (ws : List Cond) (maxL np : Nat) (inst : Bool) : Prop :=
  y.cls = C ∧ maxL ≤ 40 ∧ (parseMethodDescriptor y.desc).map (fun d => d.parameters.length) = some np ∧ (inst = true → Cond.instanceMethod y ∈ lw_all ∧ Cond.selects C y y ∈ lw_all) ∧ (inst = false → Cond.static y ∈ lw_all) ∧
  ((∃ b ret, Cond.code y b maxL ret ∈ lw_all ∧ ws = Cond.code y b maxL ret :: lw_all) ∨ (∃ b ret hh, Cond.codeWith y b maxL ret hh ∈ lw_all ∧ ws = Cond.codeWith y b maxL ret hh :: lw_all))
def notMH (C : String) : Prop := C ≠ "java/lang/invoke/MethodHandle" ∧ C ≠ "java/lang/invoke/VarHandle"
def MIok (jc : JC) (cf : CF) (mi : Nat → Option MF) : Prop :=
  (∀ t y ws maxL np rt inst, mi t = some (y, ws, maxL, np, rt, inst) → MIw jc.1 y ws maxL np inst) ∧ Cond.initialized jc.1 ∈ lw_all ∧ notMH jc.1 ∧
  (∀ n t np rt, cf.2.2.1 n = some (0, t, np, rt) → ∃ y ws maxL, mi t = some (y, ws, maxL, np, rt, true) ∧ Cond.methodLink jc.1 n y ∈ lw_all) ∧
  (∀ n t np rt, cf.2.2.2.1 n = some (t, np, rt) → ∃ y ws maxL, mi t = some (y, ws, maxL, np, rt, false) ∧ Cond.methodLink jc.1 n y ∈ lw_all)
/-- the oracle's answers are contracts -/
def RECok (l : Launch) (jc : JC) (kd : Nat → Nat) (w : WP) (mi : Nat → Option MF) (rec : RC) (n : Nat) : Prop :=
  ∀ t y ws maxL np rt inst, mi t = some (y, ws, maxL, np, rt, inst) → ∀ as σ r σ', as.length = np → rec t as σ = some (r, σ') → CTR l jc kd w y ws (fun A => argV inst (A 0) as) rt n σ r σ'
def rowC (l : Launch) (jc : JC) (kd : Nat → Nat) (w : WP) (y : MethodName) (ws : List Cond) (k : Nat) (as : List Int32) (rt : Bool) (σ : SS) (r : Option Int32) (σ' : SS) : Prop := CTR l jc kd w y ws (fun A => Value.ref (A (2 * k + 1)) :: as.map Value.int) rt 0 σ r σ'
def ROWok (l : Launch) (jc : JC) (cf : CF) (w : WP) : Prop :=
  Cond.initialized jc.2.2.1 ∈ lw_all ∧ notMH jc.2.2.1 ∧ ∀ n op np rt, cf.2.2.1 n = some (1, op, np, rt) → ∃ y ws maxL, MIw jc.2.2.1 y ws maxL (if op = 0 then 1 else if op = 1 then 0 else 2) true ∧ Cond.methodLink jc.1 n y ∈ lw_all ∧
    (op = 0 → ∀ k v σ σ', k < NF → cf.1 k = 2 → rowAdd σ k v = some σ' → rowC l jc cf.1 w y ws k [v] false σ (some 0) σ') ∧
    (op = 1 → ∀ k v σ σ', k < NF → cf.1 k = 2 → rowPop σ k = some (v, σ') → rowC l jc cf.1 w y ws k [] true σ (some v) σ') ∧
    (op = 2 → ∀ k i j σ σ', k < NF → cf.1 k = 2 → rowSwap σ k i j = some σ' → rowC l jc cf.1 w y ws k [i, j] false σ (some 0) σ')
/-- the end of an invocation -/
def QT (below : List Frame) (Qc : Array Value → State → Outcome → State → List Loc → Nat → Nat → Prop) (a : Array Value) (s : State) : State → Prop := fun t =>
  ∃ o, t.status = .running ∧ Ended t below o ∧ ∃ L k n, Qc a s o t L k n ∧ s.WarmedH t.vm ∧ s.sameButNew ({ t with vm := s.vm } : State) L k n
theorem MIw.ws {C : String} {y : MethodName} {ws : List Cond} {maxL np : Nat} {inst : Bool} (h : MIw C y ws maxL np inst) {s : State} {args : Array Value} (hts : ∀ w ∈ lw_all, w.before args s = true) : ∀ w ∈ ws, ∀ (a : Array Value) (U : State), s.WarmedH U.vm → w.before a U = true := by
  intro x hx a U hW
  have hall : x ∈ lw_all := by
    rcases h.2.2.2.2.2 with ⟨b, ret, h1, e⟩ | ⟨b, ret, hh, h1, e⟩
    · rw [e] at hx
      rcases List.mem_cons.mp hx with h2 | h2
      · rw [h2]; exact h1
      · exact h2
    · rw [e] at hx
      rcases List.mem_cons.mp hx with h2 | h2
      · rw [h2]; exact h1
      · exact h2
  exact word_at hW (lw_self x hall).2 (hts x hall)
theorem MIw.cal {C : String} {y : MethodName} {ws : List Cond} {maxL np : Nat} {inst : Bool} (h : MIw C y ws maxL np inst) {s : State} {args : Array Value} (hts : ∀ w ∈ lw_all, w.before args s = true) (hi : Cond.initialized C ∈ lw_all) : CalF s y maxL np := by
  have hi' : (Cond.initialized y.cls).before args s = true := by rw [h.1]; exact hts _ hi
  rcases h.2.2.2.2.2 with ⟨b, ret, h1, e⟩ | ⟨b, ret, hh, h1, e⟩
  · exact CalF.of (hts _ h1) hi' h.2.2.1
  · exact CalF.ofW (hts _ h1) hi' h.2.2.1
section GC
variable {p : Program} {l : Launch} {e : Env} {R : Room} {s : State} {m : MethodId} {args : Array Value} {below : List Frame} {meth : Method} {c : Code} {QQ : State → Prop} {cf : CF} {w : WP} {tb : TB} {inst : Bool} {nL : Nat} {hs : Nat → Option Nat} {A0 : Nat → Nat} {σ0 : SS} {pc : Nat} {L : LL} {st : List AV} {σ : SS} {cc : ByteArray} {D : List Nat} {len : Nat} {jc : JC} {ty : Nat → FieldType}
theorem pops_st : ∀ (n : Nat) (acc as : List Int32) (st st' : List AV), pops n acc st = some (as, st') → ∃ bs : List Int32, bs.length = n ∧ as = bs ++ acc ∧ ∀ (σ : SS) (A : Nat → Nat) (u : List Value), stR σ A st u → ∃ u', u = (bs.map Value.int).reverse ++ u' ∧ stR σ A st' u' := by
  intro n
  induction n with
  | zero =>
    intro acc as st st' h
    have h := Option.some.inj h
    have h1 : acc = as := congrArg Prod.fst h
    have h2 : st = st' := congrArg Prod.snd h
    subst h1; subst h2
    exact ⟨[], rfl, rfl, fun σ A u hu => ⟨u, rfl, hu⟩⟩
  | succ n ih =>
    intro acc as st st' h
    match st, h with
    | .inl v :: t, h =>
      obtain ⟨bs, e1, e2, e3⟩ := ih (v :: acc) as t st' h
      refine ⟨bs ++ [v], by simp [e1], by rw [e2]; simp, fun σ A u hu => ?_⟩
      obtain ⟨r, e4, hr⟩ := hu.int
      obtain ⟨u', e5, hu'⟩ := e3 σ A r hr
      exact ⟨u', by rw [e4, e5]; simp, hu'⟩
/-- behind a call: the points of the caller -/
theorem gj_back {A A' : Nat → Nat} {H : Heap} {locs Lw : List Loc} {t : State} {ls : Array Slot} {σ' : SS} {z : Nat} {st1 : List AV} {stc : List Value} (hA : AG A0 A σ0 σ) (hF : FR w s.heap H locs) (hW' : WR cf.1 w A' σ' t.heap) (hA' : AG A A' σ σ') (hF' : FR w H t.heap Lw) (hl : lv_has ls nL (lrel inst (A0 0) (Dof tb z) L)) (hst : stR σ' A' st1 stc)
    (h : GJ p l e R s m args below meth c QQ cf.1 w tb inst nL A0 σ0 z L st1 σ') :
    W p l e R s m args below meth c t.heap (locs ++ Lw) (σ.2.2.2.1 - σ0.2.2.2.1 + (σ'.2.2.2.1 - σ.2.2.2.1)) (σ.2.2.2.2 - σ0.2.2.2.2 + (σ'.2.2.2.2 - σ.2.2.2.2)) QQ (F0 m z ls stc) := by
  have hAA := hA.trans hA'
  have e1 : σ.2.2.2.1 - σ0.2.2.2.1 + (σ'.2.2.2.1 - σ.2.2.2.1) = σ'.2.2.2.1 - σ0.2.2.2.1 := by
    have := hA.2.2.2.1
    have := hA'.2.2.2.1
    omega
  have e2 : σ.2.2.2.2 - σ0.2.2.2.2 + (σ'.2.2.2.2 - σ.2.2.2.2) = σ'.2.2.2.2 - σ0.2.2.2.2 := by
    have := hA.2.2.2.2.1
    have := hA'.2.2.2.2.1
    omega
  rw [e1, e2]
  exact h ls stc t.heap _ A' hl hst hW' hAA (hF.call hF')
/-- what is thrown at pc: it leaves the method, or is caught -/
def ThJ (G : Nat → LL → List AV → SS → Prop) (hs : Nat → Option Nat) (Rt : SS → Prop) (pc : Nat) (L : LL) (σ : SS) : Prop := match hs pc with
  | none => Rt σ
  | some z => G z L [.inr (0, 0)] σ
end GC
