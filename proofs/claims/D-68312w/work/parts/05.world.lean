/-! the store in the heap; the abstract machine's points as points of the JVM -/
/-- numbers of the classes: the big object's class and its slots, the row's, arrays of ints, of bytes, the exception's; what is not ours -/
abbrev WP : Type := (ClassId × (Nat → Nat)) × (ClassId × (Nat → Nat)) × ClassId × ClassId × ClassId × (Nat → Prop)
abbrev WP.cC (w : WP) : ClassId := w.1.1
abbrev WP.iS (w : WP) : Nat → Nat := w.1.2
abbrev WP.cR (w : WP) : ClassId := w.2.1.1
abbrev WP.iR (w : WP) : Nat → Nat := w.2.1.2
abbrev WP.cI (w : WP) : ClassId := w.2.2.1
abbrev WP.cB (w : WP) : ClassId := w.2.2.2.1
abbrev WP.cE (w : WP) : ClassId := w.2.2.2.2.1
abbrev WP.Fg (w : WP) : Nat → Prop := w.2.2.2.2.2
/-- names: the class, its fields, the row's class, its fields, the nest's host, two constants (the row's array, its size) -/
abbrev JC : Type := String × u_T × String × u_T × String × Nat × Nat
abbrev NF : Nat := 23
def valK (kd : Nat → Nat) (A : Nat → Nat) (σ : SS) (k : Nat) : Value := if kd k ≤ 1 then .int (σ.1 k) else .ref (A (2 * k + 1))
def arrIn (c : ClassId) (H : Heap) (a n : Nat) (l : List Int32) : Prop := ∃ f : Nat → Int32, H[a]? = some (arrV c n (fun j => Value.int (f j))) ∧ ∀ (j : Nat) (x : Int32), l[j]? = some x → f j = x
def rowV (A : Nat → Nat) (σ : SS) (k j : Nat) : Value := if j = 0 then .ref (A (2 * k + 2)) else .int (nI (σ.2.1 k).length)
def WRow (w : WP) (A : Nat → Nat) (σ : SS) (H : Heap) (k : Nat) : Prop :=
  t_OB (A (2 * k + 1)) w.cR 2 w.iR H (rowV A σ k) ∧ arrIn w.cI H (A (2 * k + 2)) (σ.2.2.1 k) (σ.2.1 k) ∧ (σ.2.1 k).length ≤ σ.2.2.1 k ∧ 1 ≤ σ.2.2.1 k ∧ σ.2.2.1 k < 2 ^ 30
def WArr (c : ClassId) (A : Nat → Nat) (σ : SS) (H : Heap) (k : Nat) : Prop :=
  arrIn c H (A (2 * k + 1)) (σ.2.2.1 k) (σ.2.1 k) ∧ (σ.2.1 k).length = σ.2.2.1 k ∧ σ.2.2.1 k < 2 ^ 30
/-- an exception's object -/
def isExc (c : ClassId) (H : Heap) (a : Nat) : Prop := ∃ cell : Cell, H[a]? = some cell ∧ cell.cls = c ∧ ∀ k, cell.vm ≠ .statics k
def domA (kd : Nat → Nat) (i : Nat) : Prop := i = 0 ∨ (∃ k, k < NF ∧ 2 ≤ kd k ∧ i = 2 * k + 1) ∨ (∃ k, k < NF ∧ kd k = 2 ∧ i = 2 * k + 2)
def WR (kd : Nat → Nat) (w : WP) (A : Nat → Nat) (σ : SS) (H : Heap) : Prop :=
  t_OB (A 0) w.cC NF w.iS H (valK kd A σ) ∧ (∀ k, k < NF → kd k = 2 → WRow w A σ H k) ∧ (∀ k, k < NF → kd k = 3 → WArr w.cB A σ H k) ∧ (∀ k, k < NF → kd k = 4 → WArr w.cI A σ H k) ∧
  (∀ k, k < NF → kd k = 5 → isExc w.cE H (A (2 * k + 1))) ∧ (∀ i j, domA kd i → domA kd j → A i = A j → i = j) ∧ (∀ i, domA kd i → ¬ w.Fg (A i)) ∧ ∀ q, w.Fg q → q < H.size
/-- what the tables say -/
def KK (jc : JC) (w : WP) (U : State) : Prop :=
  u_Kn U jc.1 jc.2.1 NF w.cC w.iS ∧ u_Kn U jc.2.2.1 jc.2.2.2.1 2 w.cR w.iR ∧ (ArrOfT U w.cI .int ∧ va_RA U w.cI .int) ∧ (ArrOfT U w.cB .byte) ∧ (U.vm.findClass "java/lang/IllegalStateException" = some w.cE ∧ ∃ k, U.vm.classes[w.cE]? = some k) ∧
  va_Nw (.fieldLinkNest jc.1 jc.2.2.2.2.2.1 jc.2.2.1 (jc.2.2.2.1 0).2.1 (jc.2.2.2.1 0).2.2.1 jc.2.2.2.2.1) U ∧ va_Nw (.fieldLinkNest jc.1 jc.2.2.2.2.2.2 jc.2.2.1 (jc.2.2.2.1 1).2.1 (jc.2.2.2.1 1).2.2.1 jc.2.2.2.2.1) U
theorem KK.moved {jc : JC} {w : WP} {s U : State} (hW : s.WarmedH U.vm) (h : KK jc w s) : KK jc w U := by
  obtain ⟨h1, h2, ⟨h3, h3'⟩, h4, ⟨h5, k, hk⟩, h6, h7⟩ := h
  have hA := hW.alike
  obtain ⟨k', hk', -⟩ := hA.2.2 _ _ hk
  exact ⟨u_Kn_moved hA h1, u_Kn_moved hA h2, ⟨arrOfT_moved hA h3, h3'.moved hA⟩, arrOfT_moved hA h4, ⟨by rw [hA.findClass]; exact h5, k', hk'⟩, va_Nw.warmF hW h6, va_Nw.warmF hW h7⟩
/-- the references on the stack -/
def avR (σ : SS) (A : Nat → Nat) : AV → Value → Prop
  | .inl v, x => x = .int v
  | .inr (0, _), x => ∃ a, x = .ref a
  | .inr (1, _), x => x = .ref (A 0)
  | .inr (k + 2, 0), x => x = .ref (A (2 * k + 1))
  | .inr (k + 2, n + 1), x => ∃ a, x = .ref a ∧ n ≤ σ.2.2.1 k ∧ (σ.2.2.1 k = n → a = A (2 * k + 2))
def stR (σ : SS) (A : Nat → Nat) : List AV → List Value → Prop
  | [], [] => True
  | a :: t, x :: u => avR σ A a x ∧ stR σ A t u
  | _, _ => False
theorem avR.cat {σ : SS} {A : Nat → Nat} {a : AV} {x : Value} (h : avR σ A a x) : x.category = 1 := by
  match a, h with
  | .inl v, h => rw [show x = .int v from h]; rfl
  | .inr (0, _), h => obtain ⟨b, e⟩ := h; rw [e]; rfl
  | .inr (1, _), h => rw [show x = .ref (A 0) from h]; rfl
  | .inr (k + 2, 0), h => rw [show x = .ref (A (2 * k + 1)) from h]; rfl
  | .inr (k + 2, n + 1), h => obtain ⟨b, e, -⟩ := h; rw [e]; rfl
theorem stR.cons {σ : SS} {A : Nat → Nat} {a : AV} {t : List AV} {u : List Value} (h : stR σ A (a :: t) u) : ∃ x r, u = x :: r ∧ avR σ A a x ∧ stR σ A t r := by
  match u, h with
  | x :: r, h => exact ⟨x, r, rfl, h.1, h.2⟩
theorem stR.nil {σ : SS} {A : Nat → Nat} {u : List Value} (h : stR σ A [] u) : u = [] := by
  match u, h with
  | [], _ => rfl
theorem stR.int {σ : SS} {A : Nat → Nat} {v : Int32} {t : List AV} {u : List Value} (h : stR σ A (.inl v :: t) u) : ∃ r, u = .int v :: r ∧ stR σ A t r := by
  obtain ⟨x, r, e, h1, h2⟩ := h.cons
  exact ⟨r, by rw [e, show x = .int v from h1], h2⟩
theorem stR.sum {σ : SS} {A : Nat → Nat} : ∀ {t : List AV} {u : List Value}, stR σ A t u → (u.map fun v => v.category).sum = t.length := by
  intro t
  induction t with
  | nil => intro u h; rw [h.nil]; rfl
  | cons a t ih =>
    intro u h
    obtain ⟨x, r, e, h1, h2⟩ := h.cons
    rw [e, List.map_cons, List.sum_cons, ih h2, h1.cat, List.length_cons]
    omega
/-- since the invocation's start: objects stay, arrays stay unless they grew, nothing is unmade -/
def AG (A0 A : Nat → Nat) (σ0 σ : SS) : Prop :=
  A 0 = A0 0 ∧ (∀ k, A (2 * k + 1) = A0 (2 * k + 1)) ∧ (∀ k, σ0.2.2.1 k ≤ σ.2.2.1 k ∧ (σ.2.2.1 k = σ0.2.2.1 k → A (2 * k + 2) = A0 (2 * k + 2))) ∧ σ0.2.2.2.1 ≤ σ.2.2.2.1 ∧ σ0.2.2.2.2 ≤ σ.2.2.2.2 ∧ (σ.2.2.2.1 ≤ MXC ∧ σ.2.2.2.2 ≤ MXS)
theorem AG.trans {A0 A A' : Nat → Nat} {σ0 σ σ' : SS} (h : AG A0 A σ0 σ) (h' : AG A A' σ σ') : AG A0 A' σ0 σ' := by
  obtain ⟨a1, a2, a3, a4, a5, a6⟩ := h
  obtain ⟨b1, b2, b3, b4, b5, b6⟩ := h'
  refine ⟨b1.trans a1, fun k => (b2 k).trans (a2 k), fun k => ⟨Nat.le_trans (a3 k).1 (b3 k).1, fun e => ?_⟩, Nat.le_trans a4 b4, Nat.le_trans a5 b5, b6⟩
  have h1 := (a3 k).1
  have h2 := (b3 k).1
  rw [(b3 k).2 (by omega), (a3 k).2 (by omega)]
theorem avR.go {A A' : Nat → Nat} {σ σ' : SS} (h : AG A A' σ σ') {a : AV} {x : Value} (hx : avR σ A a x) : avR σ' A' a x := by
  match a, hx with
  | .inl v, hx => exact hx
  | .inr (0, _), hx => exact hx
  | .inr (1, _), hx => show x = .ref (A' 0); rw [h.1]; exact hx
  | .inr (k + 2, 0), hx => show x = .ref (A' (2 * k + 1)); rw [h.2.1 k]; exact hx
  | .inr (k + 2, n + 1), hx =>
    obtain ⟨b, e, hn, hb⟩ := hx
    have h1 := (h.2.2.1 k).1
    refine ⟨b, e, by omega, fun e2 => ?_⟩
    rw [(h.2.2.1 k).2 (by omega)]
    exact hb (by omega)
theorem stR.go {A A' : Nat → Nat} {σ σ' : SS} (h : AG A A' σ σ') : ∀ {t : List AV} {u : List Value}, stR σ A t u → stR σ' A' t u := by
  intro t
  induction t with
  | nil => intro u hu; rw [hu.nil]; trivial
  | cons a t ih =>
    intro u hu
    obtain ⟨x, r, e, h1, h2⟩ := hu.cons
    rw [e]
    exact ⟨h1.go h, ih h2⟩
def FR (w : WP) (H0 H : Heap) (locs : List Loc) : Prop := H0.size ≤ H.size ∧ (∀ q, w.Fg q → H[q]? = H0[q]?) ∧ ∀ z ∈ locs, ¬ w.Fg z.base
theorem FR.rf {w : WP} {H : Heap} : FR w H H [] := ⟨Nat.le_refl _, fun _ _ => rfl, fun _ h => absurd h List.not_mem_nil⟩
theorem FR.put {w : WP} {H0 H H1 : Heap} {locs : List Loc} {a i : Nat} (h : FR w H0 H locs) (z : H1.size = H.size) (o : ∀ q : Nat, q ≠ a → H1[q]? = H[q]?) (ha : ¬ w.Fg a) : FR w H0 H1 (locs ++ [⟨a, i⟩]) := by
  refine ⟨by rw [z]; exact h.1, fun q hq => ?_, fun y hy => ?_⟩
  · rw [o q (fun e => ha (e ▸ hq))]
    exact h.2.1 q hq
  · rcases List.mem_append.mp hy with h1 | h1
    · exact h.2.2 y h1
    · rw [List.mem_singleton.mp h1]; exact ha
theorem FR.call {w : WP} {H0 H H1 : Heap} {locs L : List Loc} (h : FR w H0 H locs) (h1 : FR w H H1 L) : FR w H0 H1 (locs ++ L) := by
  refine ⟨Nat.le_trans h.1 h1.1, fun q hq => (h1.2.1 q hq).trans (h.2.1 q hq), fun y hy => ?_⟩
  rcases List.mem_append.mp hy with h2 | h2
  · exact h.2.2 y h2
  · exact h1.2.2 y h2
def Dof (tb : TB) (pc : Nat) : List Nat := match alook tb pc with | some e => e.2.2 | none => []
def lrel (inst : Bool) (o : Nat) (D : List Nat) (L : LL) : List (Nat × Value) := (if inst then [(0, Value.ref o)] else []) ++ D.map fun k => (k, Value.int (L k))
theorem lrel.sub {ls : Array Slot} {nL : Nat} {l l' : List (Nat × Value)} (h : lv_has ls nL l) (hs : ∀ q ∈ l', q ∈ l) : lv_has ls nL l' := ⟨h.1, h.2.1, fun q hq => h.2.2 q (hs q hq)⟩
theorem lrel.mem {inst : Bool} {o : Nat} {D : List Nat} {L : LL} {q : Nat × Value} : q ∈ lrel inst o D L ↔ (inst = true ∧ q = (0, .ref o)) ∨ ∃ k ∈ D, q = (k, .int (L k)) := by
  unfold lrel
  cases inst <;> simp [eq_comm]
/-- static facts of a table: jumps stay in, locals that are read are set -/
def sucs (i : Instr) (len pc : Nat) : List Nat := match i with
  | .goto off => [jm pc off]
  | .if_icmp _ off => [pc + len, jm pc off]
  | .ifCond _ off => [pc + len, jm pc off]
  | .tableswitch d _ _ offs => jm pc d :: offs.toList.map (jm pc)
  | .lookupswitch d ps => jm pc d :: ps.toList.map fun q => jm pc q.2
  | .ireturn => []
  | .return_ => []
  | _ => [pc + len]
def jok (i : Instr) (pc : Nat) : Bool := match i with
  | .goto off => decide (0 ≤ (pc : Int) + off)
  | .if_icmp _ off => decide (0 ≤ (pc : Int) + off)
  | .ifCond _ off => decide (0 ≤ (pc : Int) + off)
  | .tableswitch d _ _ offs => decide (0 ≤ (pc : Int) + d) && offs.toList.all fun o => decide (0 ≤ (pc : Int) + o)
  | .lookupswitch d ps => decide (0 ≤ (pc : Int) + d) && (ps.toList.all fun o => decide (0 ≤ (pc : Int) + o.2)) && (ps.toList.zip (ps.toList.drop 1)).all fun q => decide (q.1.1 < q.2.1)
  | _ => true
def usesOf (i : Instr) : List Nat := match i with | .iload k => [k] | .iload_n k => [k.val] | .iinc k _ => [k] | _ => []
def storesOf (i : Instr) : List Nat := match i with | .istore k => [k] | .istore_n k => [k.val] | .iinc k _ => [k] | _ => []
def killsOf (i : Instr) : List Nat := match i with | .astore k => [k] | .astore_n k => [k.val] | _ => []
def lenOf (i : Instr) : Nat := match i with
  | .bipush _ => 2 | .sipush _ => 3 | .ldc _ => 2 | .iload _ => 2 | .istore _ => 2 | .astore _ => 2 | .iinc _ _ => 3 | .goto _ => 3 | .if_icmp _ _ => 3 | .ifCond _ _ => 3 | .getfield _ => 3 | .putfield _ => 3 | .invokevirtual _ => 3 | .invokestatic _ => 3 | _ => 1
def dchk (inst : Bool) (nL : Nat) (hs : Nat → Option Nat) (tb : TB) : Bool := tb.all fun q =>
  jok q.2.1 q.1 && ((usesOf q.2.1).all fun k => q.2.2.2.contains k) && ((storesOf q.2.1 ++ killsOf q.2.1).all fun k => decide (k < nL) && (!inst || decide (k ≠ 0))) &&
  ((sucs q.2.1 q.2.2.1 q.1).all fun z => (Dof tb z).all fun k => (q.2.2.2 ++ storesOf q.2.1).contains k && !(killsOf q.2.1).contains k) &&
  (match q.2.1 with | .tableswitch _ _ _ _ => true | .lookupswitch _ _ => true | i => Nat.beq q.2.2.1 (lenOf i)) &&
  (match hs q.1 with | none => true | some z => (Dof tb z).all fun k => q.2.2.2.contains k)
theorem alook_mem {α : Type} : ∀ {l : List (Nat × α)} {n : Nat} {v : α}, alook l n = some v → (n, v) ∈ l := by
  intro l
  induction l with
  | nil => intro n v h; cases h
  | cons a t ih =>
    intro n v h
    unfold alook at h
    split at h
    · next hk =>
      rw [← Nat.eq_of_beq_eq_true hk, ← Option.some.inj h]
      exact List.mem_cons_self
    · exact List.mem_cons_of_mem _ (ih h)
