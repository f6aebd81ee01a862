/-! calls that may return or throw -/
/-- a contract whose method may throw: Qc says what it leaves, with the slots written, cells and slots made -/
def MT (l : Launch) (y : MethodName) (ws : List Cond) (rm : Room) (P : Array Value → State → Prop) (Qc : Array Value → State → Outcome → State → List Loc → Nat → Nat → Prop) : Prop :=
  MetFree l y (headSpec ws rm) P (fun _ _ _ _ _ => True) (fun a st o t => ∃ L k n, Qc a st o t L k n ∧ st.WarmedH t.vm ∧ st.sameButNew ({ t with vm := st.vm } : State) L k n)
/-- what a call needs of its callee in the tables -/
def CalF (s : State) (y : MethodName) (maxL np : Nat) : Prop := ∃ mk methY cY kY, s.methodNamed? y = some mk ∧ s.vm.method? mk = some methY ∧ methY.code = some cY ∧ cY.maxLocals = maxL ∧ methY.sig.parameters.length = np ∧ s.vm.classes[mk.cls]? = some kY ∧ kY.init = .initialized
theorem CalF.of {s : State} {args : Array Value} {y : MethodName} {b : ByteArray} {maxL np : Nat} {ret : Option FieldType} (h : (Cond.code y b maxL ret).before args s = true) (hi : (Cond.initialized y.cls).before args s = true) (hn : (parseMethodDescriptor y.desc).map (fun d => d.parameters.length) = some np) : CalF s y maxL np := by
  obtain ⟨mk, hnm⟩ := Cond.code_named h
  obtain ⟨methY, cY, h1, h2, -, h3, -, -, -, h4⟩ := Cond.code_spec hnm h
  obtain ⟨kY, hkY, -⟩ := className_of_methodNamed hnm
  refine ⟨mk, methY, cY, kY, hnm, h1, h2, h3, ?_, hkY, Cond.initialized_spec (findClass_of_methodNamed hnm) hkY hi⟩
  rw [h4] at hn
  exact Option.some.inj hn
theorem CalF.ofW {s : State} {args : Array Value} {y : MethodName} {b : ByteArray} {maxL np : Nat} {ret : Option FieldType} {hh : List (Nat × Nat × Nat × Nat)} (h : (Cond.codeWith y b maxL ret hh).before args s = true) (hi : (Cond.initialized y.cls).before args s = true) (hn : (parseMethodDescriptor y.desc).map (fun d => d.parameters.length) = some np) : CalF s y maxL np := by
  obtain ⟨mk, methY, cY, hnm, h1, h2, -, h3, -, -, -, h4⟩ := Cond.codeWith_spec h
  obtain ⟨kY, hkY, -⟩ := className_of_methodNamed hnm
  refine ⟨mk, methY, cY, kY, hnm, h1, h2, h3, ?_, hkY, Cond.initialized_spec (findClass_of_methodNamed hnm) hkY hi⟩
  rw [h4] at hn
  exact Option.some.inj hn
section CT
variable {p : Program} {l : Launch} {e : Env} {R : Room} {s : State} {m : MethodId} {args : Array Value} {below : List Frame} {meth : Method} {c : Code} {T : State} {locs : List Loc} {cells slots : Nat}
theorem MT.call (X : Stand p l e R s m args below meth c T locs cells slots) {y : MethodName} {ws : List Cond} {rm : Room} {P : Array Value → State → Prop} {Qc : Array Value → State → Outcome → State → List Loc → Nat → Nat → Prop}
    (hM : MT l y ws rm P Qc) {maxL np V : Nat} (hF : CalF T y maxL np) (hframes : rm.frames + 1 ≤ R.frames) (hlocals : V + (maxL + 11) + rm.locals ≤ R.locals) (hcells : cells + rm.cells ≤ R.cells) (hslots : slots + rm.slots ≤ R.slots)
    {a : Array Value} (hws : ∀ w ∈ ws, w.before a T = true) (hP : ∀ (g : JFrame) (mk : MethodId), P a (T.calling g mk a))
    {g : JFrame} (hg : g.method = m) (hsize : g.locals.size = c.maxLocals) {ig : Instr} {len : Nat} (hdg : decode c.code g.pc = .ok (ig, len)) (hV : 2 * g.monitorRoom + (g.stack.map fun v => v.category).sum ≤ V) {mk : MethodId} (hmk : T.methodNamed? y = some mk) :
    (∃ (v : Option Value) (t T' : State) (L : List Loc) (k n : Nat), Qc a (T.calling g mk a) (.returned v) t L k n ∧ T'.heap = t.heap ∧ Stand p l e R s m args below meth c T' (locs ++ L) (cells + k) (slots + n) ∧ Steps p.tables e below (doInvoke e (T.setTop g) [] mk a).1 (T'.setTop { g with pc := g.pc + len, stack := v.toList ++ g.stack })) ∨
    (∃ (x : Addr) (t T' : State) (L : List Loc) (k n : Nat), Qc a (T.calling g mk a) (.threw x) t L k n ∧ T'.heap = t.heap ∧ Stand p l e R s m args below meth c T' (locs ++ L) (cells + k) (slots + n) ∧ Steps p.tables e below (doInvoke e (T.setTop g) [] mk a).1 ((T'.setTop g).pushFrame (.throwing x))) := by
  obtain ⟨mk', methY, cY, kY, hn, hmY, hcY, hlY, -, hkY, hinitY⟩ := hF
  cases hmk.symm.trans hn
  have h : At T g.method c below := by rw [hg]; exact X.here
  have happ : (headSpec ws rm).appliesLoose y e.platform (T.calling g mk a) = true :=
    Spec.appliesLoose_calling (g := g) h hdg hn hkY hinitY
      (X.room_calling (g := g) (R' := rm) hsize hmY hcY hframes (by rw [hlY]; omega) hcells hslots) (atoms_intro hws)
  obtain ⟨mid, hmid⟩ := h.above
  have hfr : (T.setTop g).frames = (.java g :: mid) ++ below := by rw [State.frames_setTop' g h.top, hmid]; rfl
  obtain ⟨o, s₂, hsteps, -, hend, hq⟩ := Steps.callFree hM p X.admits X.cas X.clock (acts := []) hfr happ (hP g mk) trivial
  have hq' : ∃ L k n, Qc a (T.calling g mk a) o s₂ L k n ∧ (T.calling g mk a).WarmedH s₂.vm ∧ (T.calling g mk a).sameButNew ({ s₂ with vm := (T.calling g mk a).vm } : State) L k n := hq
  rw [State.frames_setTop' g h.top] at hend
  obtain ⟨L, k, n, hqc, hW₂, hsbn⟩ := hq'
  cases o with
  | threw x =>
    right
    have hend' : Ended s₂ (.java g :: below) (.threw x) := by
      have e1 : T.frames.tail = below := X.tail
      rw [e1] at hend
      exact hend
    obtain ⟨T', X', -, -, ht⟩ := X.outOfThrown hg hend' hW₂ hsbn
    refine ⟨x, s₂, T', L, k, n, hqc, ?_, X', ?_⟩
    · rw [ht, Stand.throwing_heap]
    · rw [← ht]
      exact hsteps
  | returned v =>
    left
    obtain ⟨e2, q2, q3, q4, q5, q6⟩ := hsbn
    have e3 : s₂ = ({ (T.calling g mk a).setFrames s₂.frames with heap := s₂.heap, slotsUsed := s₂.slotsUsed } : State).setVm s₂.vm := by
      have : s₂ = ({ s₂ with vm := (T.calling g mk a).vm } : State).setVm s₂.vm := rfl
      rw [e2] at this
      exact this
    obtain ⟨c₂, i₂, len₂, hc₂, hd₂, hf₂⟩ := hend
    have hW' : T.WarmedH s₂.vm := hW₂
    have hcc : c₂ = c := by
      have h1 : s₂.code? g.method = T.code? g.method := by
        rw [State.code?_eq, State.code?_eq, hW'.alike.method?]
      exact Option.some.inj (hc₂.symm.trans (h1.trans h.code))
    subst hcc
    have hlen : len₂ = len := by rw [hdg] at hd₂; cases hd₂; rfl
    subst hlen
    obtain ⟨g₀, hg0⟩ := Option.isSome_iff_exists.mp h.top
    obtain ⟨r, hr⟩ := State.topJava?_eq_some.mp hg0
    have hs₂ : s₂ = (({ T with heap := s₂.heap, slotsUsed := s₂.slotsUsed } : State).setVm s₂.vm).setTop { g with pc := g.pc + len₂, stack := v.toList ++ g.stack } := by
      have hr' : (({ T with heap := s₂.heap, slotsUsed := s₂.slotsUsed } : State).setVm s₂.vm).frames = .java g₀ :: r := hr
      refine e3.trans ?_
      rw [hf₂, State.calling_eq h.top, State.setFrames_setFrames, State.setTop_of_frames _ hr', hr]
      rfl
    have hsame : T.sameButNew ({ T with heap := s₂.heap, slotsUsed := s₂.slotsUsed } : State) L k n := by
      refine ⟨?_, q2, q3, q4, q5, q6⟩
      obtain ⟨t, ht, -⟩ := State.frames_cons hr
      show ({ T with heap := s₂.heap, slotsUsed := s₂.slotsUsed } : State) = { T.setFrames T.frames with heap := s₂.heap, slotsUsed := s₂.slotsUsed }
      rw [State.setFrames_self ht]
    subst hg
    refine ⟨v, s₂, (({ T with heap := s₂.heap, slotsUsed := s₂.slotsUsed } : State).setVm s₂.vm), L, k, n, hqc, rfl,
      ⟨X.admits, X.cas, X.clock, X.frames, X.room, X.hears, X.method, X.code, (X.here.setHeapUsed s₂.heap s₂.slotsUsed).setVm hW'.alike, X.tail, State.WarmedH.trans X.warmed hW', X.limits, X.bytes, X.same.trans (hsame.setVm s.vm)⟩, ?_⟩
    rw [← hs₂]
    exact hsteps
end CT
section CW
variable {p : Program} {l : Launch} {e : Env} {R : Room} {s : State} {m : MethodId} {args : Array Value} {below : List Frame} {meth : Method} {c : Code} {H : Heap} {locs : List Loc} {cells slots : Nat} {Q : State → Prop}
/-- an exception x stands over the frame g -/
def WT (p : Program) (l : Launch) (e : Env) (R : Room) (s : State) (m : MethodId) (args : Array Value) (below : List Frame) (meth : Method) (c : Code) (H : Heap) (locs : List Loc) (cells slots : Nat) (Q : State → Prop) (g : JFrame) (x : Addr) : Prop :=
  ∀ T : State, T.heap = H → Stand p l e R s m args below meth c T locs cells slots → ∃ t, Steps p.tables e below ((T.setTop g).pushFrame (.throwing x)) t ∧ Q t
theorem CalF.warm {y : MethodName} {maxL np : Nat} {U : State} (hW : s.WarmedH U.vm) (h : CalF s y maxL np) : CalF U y maxL np := by
  obtain ⟨mk, methY, cY, kY, h1, h2, h3, h4, h5, h6, h7⟩ := h
  obtain ⟨k', hk', he⟩ := hW.alike.2.2 _ _ h6
  have h1' : U.methodNamed? y = some mk := by
    have e1 : (s.setVm U.vm).methodNamed? y = s.methodNamed? y := State.methodNamed?_setVm hW.alike y
    rw [State.methodNamed?_of_vm (U := U) (V := s.setVm U.vm) rfl, e1]
    exact h1
  refine ⟨mk, methY, cY, k', h1', by rw [hW.alike.method?]; exact h2, h3, h4, h5, hk', ?_⟩
  rw [he]; exact h7
theorem W.callT {y : MethodName} {ws : List Cond} {rm : Room} {P : Array Value → State → Prop} {Qc : Array Value → State → Outcome → State → List Loc → Nat → Nat → Prop} (hexec : p.tables.exec = Jvm.exec) {cc : ByteArray} (hb : c.code = cc) {nL : Nat} (hml : c.maxLocals = nL)
    (hM : MT l y ws rm P Qc) {maxL np V : Nat} {own C : String} {index : Nat} (hown : s.vm.findClass own = some m.cls) (hlink : (Cond.methodLink own index y).before args s = true) (hinst : (Cond.instanceMethod y).before args s = true) (hsel : (Cond.selects C y y).before args s = true) (hy : y.cls ≠ "java/lang/invoke/MethodHandle" ∧ y.cls ≠ "java/lang/invoke/VarHandle")
    (hF : CalF s y maxL np) (hframes : rm.frames + 1 ≤ R.frames) (hlocals : V + (maxL + 11) + rm.locals ≤ R.locals) (hcells : cells + rm.cells ≤ R.cells) (hslots : slots + rm.slots ≤ R.slots) (hws : ∀ w ∈ ws, ∀ (a : Array Value) (U : State), s.WarmedH U.vm → w.before a U = true)
    {b : Addr} (hcell : ∃ cellB : Cell, H[b]? = some cellB ∧ cellB.vm.isStatics = false ∧ s.vm.findClass C = some cellB.cls) {As rest : List Value} (hn : As.length = np) (hP : ∀ (U : State) (g : JFrame) (mk : MethodId), U.heap = H → s.WarmedH U.vm → P (Value.ref b :: As).toArray (U.calling g mk (Value.ref b :: As).toArray))
    {pc : Nat} {ls : Array Slot} (hsz : ls.size = nL) (hV : (rest.map fun v => v.category).sum ≤ V) (hdg : decode cc pc = .ok (.invokevirtual index, 3))
    (kr : ∀ (v : Option Value) (st t : State) (L : List Loc) (k n : Nat), st.heap = H → Qc (Value.ref b :: As).toArray st (.returned v) t L k n → W p l e R s m args below meth c t.heap (locs ++ L) (cells + k) (slots + n) Q (F0 m (pc + 3) ls (v.toList ++ rest)))
    (kt : ∀ (x : Addr) (st t : State) (L : List Loc) (k n : Nat), st.heap = H → Qc (Value.ref b :: As).toArray st (.threw x) t L k n → WT p l e R s m args below meth c t.heap (locs ++ L) (cells + k) (slots + n) Q (F0 m pc ls rest) x) :
    W p l e R s m args below meth c H locs cells slots Q (F0 m pc ls (As.reverse ++ .ref b :: rest)) := by
  intro T hT X
  obtain ⟨mk, methM, hnamed, hmethM, hstM, habM⟩ := Cond.instanceMethod_spec hinst
  obtain ⟨mk', methY, cY, kY, hn1, hn2, hn3, hn4, hn5, hn6, hn7⟩ := id hF
  cases hnamed.symm.trans hn1
  cases hmethM.symm.trans hn2
  obtain ⟨cellB, hcB, hobj, hclB⟩ := hcell
  obtain ⟨c2, r2, m2, q1, q2, q3, q4, kP, hkP, hkPi⟩ := Cond.selects_spec hsel
  cases hclB.symm.trans q1
  cases (State.methodFound?_of_named hnamed hy).symm.trans q2
  cases hnamed.symm.trans q3
  have hselP : selectMethod e.platform s.vm cellB.cls mk = .method mk := by rw [Launch.admits_selectMethod X.admits]; exact q4
  obtain ⟨vm₁, X₁, hstep₁⟩ := X.invokevirtual hexec hown hlink hnamed hmethM hstM hkP hkPi hy (a := b) (cell := cellB) (by rw [hT]; exact hcB)
    (fun z h => by rw [h] at hobj; cases hobj) hselP hmethM habM hkP hkPi (g := F0 m pc ls (As.reverse ++ .ref b :: rest)) rfl (argsL := As) (rest := rest) (by rw [hn5]; exact hn) rfl (by rw [hb]; exact hdg)
  have hT1 : (T.setVm vm₁).heap = H := hT
  rcases MT.call X₁ hM (hF.warm X₁.warmed) hframes hlocals hcells hslots (a := (Value.ref b :: As).toArray) (fun w hw => hws w hw _ _ X₁.warmed) (fun g mk => hP _ g mk hT1 X₁.warmed) (g := F0 m pc ls rest) rfl (hsz.trans hml.symm) (by rw [hb]; exact hdg) (by show 2 * 0 + (rest.map fun v => v.category).sum ≤ V; omega) (X₁.named hnamed) with ⟨v, t, T', L, k, n, hq, hh, X', hs⟩ | ⟨x, t, T', L, k, n, hq, hh, X', hs⟩
  · obtain ⟨t2, a1, b1⟩ := kr v _ t L k n (by exact hT1) hq T' hh X'
    exact ⟨t2, hstep₁ _ fun acts => by rw [doInvoke_state]; exact hs.trans a1, b1⟩
  · obtain ⟨t2, a1, b1⟩ := kt x _ t L k n (by exact hT1) hq T' hh X'
    exact ⟨t2, hstep₁ _ fun acts => by rw [doInvoke_state]; exact hs.trans a1, b1⟩
theorem W.callST {y : MethodName} {ws : List Cond} {rm : Room} {P : Array Value → State → Prop} {Qc : Array Value → State → Outcome → State → List Loc → Nat → Nat → Prop} (hexec : p.tables.exec = Jvm.exec) {cc : ByteArray} (hb : c.code = cc) {nL : Nat} (hml : c.maxLocals = nL)
    (hM : MT l y ws rm P Qc) {maxL np V : Nat} {own : String} {index : Nat} (hown : s.vm.findClass own = some m.cls) (hlink : (Cond.methodLink own index y).before args s = true) (hstat : (Cond.static y).before args s = true) (hy : y.cls ≠ "java/lang/invoke/MethodHandle" ∧ y.cls ≠ "java/lang/invoke/VarHandle")
    (hF : CalF s y maxL np) (hframes : rm.frames + 1 ≤ R.frames) (hlocals : V + (maxL + 11) + rm.locals ≤ R.locals) (hcells : cells + rm.cells ≤ R.cells) (hslots : slots + rm.slots ≤ R.slots) (hws : ∀ w ∈ ws, ∀ (a : Array Value) (U : State), s.WarmedH U.vm → w.before a U = true)
    {As rest : List Value} (hn : As.length = np) (hP : ∀ (U : State) (g : JFrame) (mk : MethodId), U.heap = H → s.WarmedH U.vm → P As.toArray (U.calling g mk As.toArray))
    {pc : Nat} {ls : Array Slot} (hsz : ls.size = nL) (hV : (rest.map fun v => v.category).sum ≤ V) (hdg : decode cc pc = .ok (.invokestatic index, 3))
    (kr : ∀ (v : Option Value) (st t : State) (L : List Loc) (k n : Nat), st.heap = H → Qc As.toArray st (.returned v) t L k n → W p l e R s m args below meth c t.heap (locs ++ L) (cells + k) (slots + n) Q (F0 m (pc + 3) ls (v.toList ++ rest)))
    (kt : ∀ (x : Addr) (st t : State) (L : List Loc) (k n : Nat), st.heap = H → Qc As.toArray st (.threw x) t L k n → WT p l e R s m args below meth c t.heap (locs ++ L) (cells + k) (slots + n) Q (F0 m pc ls rest) x) :
    W p l e R s m args below meth c H locs cells slots Q (F0 m pc ls (As.reverse ++ rest)) := by
  intro T hT X
  obtain ⟨mk, methM, cY, kP, hnamed, hmethM, hn3, hn4, hn5, hkP, hinitP⟩ := id hF
  have hstatic : methM.isStatic = true := Cond.static_spec hnamed hmethM hstat
  obtain ⟨vm₁, X₁, hstep₁⟩ := X.invokestatic hexec hown hlink hnamed hmethM hstatic hkP hinitP hy (g := F0 m pc ls (As.reverse ++ rest)) rfl (argsL := As) (rest := rest) (by rw [hn5]; exact hn) rfl (by rw [hb]; exact hdg)
  have hT1 : (T.setVm vm₁).heap = H := hT
  rcases MT.call X₁ hM (hF.warm X₁.warmed) hframes hlocals hcells hslots (a := As.toArray) (fun w hw => hws w hw _ _ X₁.warmed) (fun g mk => hP _ g mk hT1 X₁.warmed) (g := F0 m pc ls rest) rfl (hsz.trans hml.symm) (by rw [hb]; exact hdg) (by show 2 * 0 + (rest.map fun v => v.category).sum ≤ V; omega) (X₁.named hnamed) with ⟨v, t, T', L, k, n, hq, hh, X', hs⟩ | ⟨x, t, T', L, k, n, hq, hh, X', hs⟩
  · obtain ⟨t2, a1, b1⟩ := kr v _ t L k n (by exact hT1) hq T' hh X'
    exact ⟨t2, hstep₁ _ fun acts => by rw [doInvoke_state]; exact hs.trans a1, b1⟩
  · obtain ⟨t2, a1, b1⟩ := kt x _ t L k n (by exact hT1) hq T' hh X'
    exact ⟨t2, hstep₁ _ fun acts => by rw [doInvoke_state]; exact hs.trans a1, b1⟩
end CW
