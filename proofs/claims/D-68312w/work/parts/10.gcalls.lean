/-! calls, ends and throws keep the points: proofs -/
section GD
variable {p : Program} {l : Launch} {e : Env} {R : Room} {s : State} {m : MethodId} {args : Array Value} {below : List Frame} {meth : Method} {c : Code} {QQ : State → Prop} {cf : CF} {w : WP} {tb : TB} {inst : Bool} {nL : Nat} {hs : Nat → Option Nat} {A0 : Nat → Nat} {σ0 : SS} {pc : Nat} {L : LL} {st : List AV} {σ : SS} {cc : ByteArray} {D : List Nat} {len : Nat} {jc : JC} {ty : Nat → FieldType} {mi : Nat → Option MF} {rec : RC} {nn : Nat} {Rt : SS → Prop}
/-- what a throw at pc asks -/
def ThOK (p : Program) (l : Launch) (e : Env) (R : Room) (s : State) (m : MethodId) (args : Array Value) (below : List Frame) (meth : Method) (c : Code) (QQ : State → Prop) (kd : Nat → Nat) (w : WP) (tb : TB) (inst : Bool) (nL : Nat) (hs : Nat → Option Nat) (A0 : Nat → Nat) (σ0 : SS) (Rt : SS → Prop) : Prop :=
  ∀ (pc : Nat) (i : Instr) (len : Nat) (D : List Nat) (L : LL) (σ' : SS) (x : Nat) (ls : Array Slot) (rest : List Value) (H : Heap) (locs : List Loc) (A : Nat → Nat), alook tb pc = some (i, len, D) → lv_has ls nL (lrel inst (A0 0) D L) → ThJ (GJ p l e R s m args below meth c QQ kd w tb inst nL A0 σ0) hs Rt pc L σ' → WR kd w A σ' H → AG A0 A σ0 σ' → FR w s.heap H locs → isExc w.cE H x →
    WT p l e R s m args below meth c H locs (σ'.2.2.2.1 - σ0.2.2.2.1) (σ'.2.2.2.2 - σ0.2.2.2.2) QQ (F0 m pc ls rest) x
theorem gj_run (hx : p.tables.exec = Jvm.exec) (hb : c.code = cc) (hd : decode cc pc = .ok (.invokevirtual len, 3)) (hts : ∀ w ∈ lw_all, w.before args s = true) (hown : s.vm.findClass jc.1 = some m.cls) (hml : c.maxLocals = nL) (hK : KK jc w s) (hR : R = rmOf (nn + 1) σ0) (hdc : dchk inst nL hs tb = true) (ha : alook tb pc = some (.invokevirtual len, 3, D))
    (hTh : ThOK p l e R s m args below meth c QQ cf.1 w tb inst nL hs A0 σ0 Rt)
    {C : String} {y : MethodName} {ws : List Cond} {maxL np : Nat} {rt : Bool} {as : List Int32} {r : Option Int32} {σ' : SS} {zz : Nat} {oo : (Nat → Nat) → Nat} {a0 : AV} (hmw : MIw C y ws maxL np true) (hini : Cond.initialized C ∈ lw_all) (hmh : notMH C) (hlink : Cond.methodLink jc.1 len y ∈ lw_all) (hlen : as.length = np) {n0 : Nat} (hn0 : n0 ≤ nn)
    (hC : CTR l jc cf.1 w y ws (fun A => Value.ref (oo A) :: as.map Value.int) rt n0 σ r σ') (hst' : st.length ≤ 24)
    (hobj : ∀ (A : Nat → Nat) (H : Heap) (x : Value), WR cf.1 w A σ H → avR σ A a0 x → x = .ref (oo A) ∧ ∃ cellB : Cell, H[oo A]? = some cellB ∧ cellB.vm.isStatics = false ∧ s.vm.findClass C = some cellB.cls)
    {st0 : List AV} (hp : pops np [] st0 = some (as, a0 :: st))
    (h : cwp (GJ p l e R s m args below meth c QQ cf.1 w tb inst nL A0 σ0 (pc + 3)) (ThJ (GJ p l e R s m args below meth c QQ cf.1 w tb inst nL A0 σ0) hs Rt pc) rt L st (some (r, σ'))) :
    GJ p l e R s m args below meth c QQ cf.1 w tb inst nL A0 σ0 pc L st0 σ := by
  intro ls stc H locs A hl hst hW hA hF
  obtain ⟨bs, e1, e2, e3⟩ := pops_st np [] as st0 _ hp
  obtain ⟨u, e4, hu⟩ := e3 σ A stc hst
  obtain ⟨x, rest, e5, hx0, hrest⟩ := hu.cons
  obtain ⟨e6, hcell⟩ := hobj A H x hW hx0
  have e2 : as = bs := by rw [e2]; simp
  subst e2
  subst e6
  rw [e4, e5]
  obtain ⟨g1, g2, g3, g4, g5, g6, g7⟩ := id hA
  refine W.callT (V := 24) (As := as.map Value.int) hx hb hml (hC A) hown (hts _ hlink) (hts _ (hmw.2.2.2.1 rfl).1) (hts _ (hmw.2.2.2.1 rfl).2) (by rw [hmw.1]; exact hmh) (hmw.cal hts hini) ?_ ?_ ?_ ?_ (hmw.ws hts) hcell (by rw [List.length_map]; exact hlen) (fun U g mk hU hWU => ⟨rfl, by show WR cf.1 w A σ U.heap; rw [hU]; exact hW, KK.moved (U := U.calling g mk _) hWU hK, g6, g7⟩) hl.1 (by rw [hrest.sum]; exact hst') hd ?_ ?_
  · rw [hR]; show n0 + 12 + 1 ≤ nn + 1 + 12; omega
  · rw [hR]; show 24 + (maxL + 11) + (80 * n0 + 500) ≤ 80 * (nn + 1) + 500
    have := hmw.2.1
    omega
  · rw [hR]; show _ + (MXC - σ.2.2.2.1) ≤ MXC - σ0.2.2.2.1; omega
  · rw [hR]; show _ + (MXS - σ.2.2.2.2) ≤ MXS - σ0.2.2.2.2; omega
  · intro v st1 t Lw k n hst1 hq
    obtain ⟨⟨A', hW', hA'⟩, hout, hF', ek, en⟩ := hq
    subst ek; subst en
    rw [hst1] at hF'
    match r, hout, h with
    | none, hout, h => obtain ⟨x, q, -⟩ := hout; cases q
    | some v0, hout, h =>
      have hout : v = if rt then some (.int v0) else none := Outcome.returned.inj hout
      refine gj_back hA hF hW' hA' hF' (gj_l hdc ha (by simp [sucs]) rfl hl) (st1 := if rt then .inl v0 :: st else st) ?_ h
      subst hout
      cases rt with
      | true => exact ⟨rfl, hrest.go hA'⟩
      | false => exact hrest.go hA'
  · intro x st1 t Lw k n hst1 hq
    obtain ⟨⟨A', hW', hA'⟩, hout, hF', ek, en⟩ := hq
    subst ek; subst en
    rw [hst1] at hF'
    match r, hout, h with
    | some v0, hout, h => cases hout
    | none, hout, h =>
      obtain ⟨x', q, hexc⟩ := hout
      cases q
      have := hTh pc _ 3 D L σ' x ls rest t.heap (locs ++ Lw) A' ha (by simpa [Dof, ha] using hl) h hW' (hA.trans hA') (hF.call hF') hexc
      have q1 : σ.2.2.2.1 - σ0.2.2.2.1 + (σ'.2.2.2.1 - σ.2.2.2.1) = σ'.2.2.2.1 - σ0.2.2.2.1 := by
        have := hA'.2.2.2.1
        omega
      have q2 : σ.2.2.2.2 - σ0.2.2.2.2 + (σ'.2.2.2.2 - σ.2.2.2.2) = σ'.2.2.2.2 - σ0.2.2.2.2 := by
        have := hA'.2.2.2.2.1
        omega
      rw [q1, q2]
      exact this
theorem gj_runS (hx : p.tables.exec = Jvm.exec) (hb : c.code = cc) (hd : decode cc pc = .ok (.invokestatic len, 3)) (hts : ∀ w ∈ lw_all, w.before args s = true) (hown : s.vm.findClass jc.1 = some m.cls) (hml : c.maxLocals = nL) (hK : KK jc w s) (hR : R = rmOf (nn + 1) σ0) (hdc : dchk inst nL hs tb = true) (ha : alook tb pc = some (.invokestatic len, 3, D))
    (hTh : ThOK p l e R s m args below meth c QQ cf.1 w tb inst nL hs A0 σ0 Rt)
    {C : String} {y : MethodName} {ws : List Cond} {maxL np : Nat} {rt : Bool} {as : List Int32} {r : Option Int32} {σ' : SS} (hmw : MIw C y ws maxL np false) (hini : Cond.initialized C ∈ lw_all) (hmh : notMH C) (hlink : Cond.methodLink jc.1 len y ∈ lw_all) (hlen : as.length = np)
    (hC : CTR l jc cf.1 w y ws (fun A => argV false (A 0) as) rt nn σ r σ') (hst' : st.length ≤ 24) {st0 : List AV} (hp : pops np [] st0 = some (as, st))
    (h : cwp (GJ p l e R s m args below meth c QQ cf.1 w tb inst nL A0 σ0 (pc + 3)) (ThJ (GJ p l e R s m args below meth c QQ cf.1 w tb inst nL A0 σ0) hs Rt pc) rt L st (some (r, σ'))) :
    GJ p l e R s m args below meth c QQ cf.1 w tb inst nL A0 σ0 pc L st0 σ := by
  intro ls stc H locs A hl hst hW hA hF
  obtain ⟨bs, e1, e2, e3⟩ := pops_st np [] as st0 _ hp
  obtain ⟨rest, e4, hrest⟩ := e3 σ A stc hst
  have e2 : as = bs := by rw [e2]; simp
  subst e2
  rw [e4]
  obtain ⟨g1, g2, g3, g4, g5, g6, g7⟩ := id hA
  refine W.callST (V := 24) (As := as.map Value.int) hx hb hml (hC A) hown (hts _ hlink) (hts _ (hmw.2.2.2.2.1 rfl)) (by rw [hmw.1]; exact hmh) (hmw.cal hts hini) ?_ ?_ ?_ ?_ (hmw.ws hts) (by rw [List.length_map]; exact hlen) (fun U g mk hU hWU => ⟨rfl, by show WR cf.1 w A σ U.heap; rw [hU]; exact hW, KK.moved (U := U.calling g mk _) hWU hK, g6, g7⟩) hl.1 (by rw [hrest.sum]; exact hst') hd ?_ ?_
  · rw [hR]; show nn + 12 + 1 ≤ nn + 1 + 12; omega
  · rw [hR]; show 24 + (maxL + 11) + (80 * nn + 500) ≤ 80 * (nn + 1) + 500
    have := hmw.2.1
    omega
  · rw [hR]; show _ + (MXC - σ.2.2.2.1) ≤ MXC - σ0.2.2.2.1; omega
  · rw [hR]; show _ + (MXS - σ.2.2.2.2) ≤ MXS - σ0.2.2.2.2; omega
  · intro v st1 t Lw k n hst1 hq
    obtain ⟨⟨A', hW', hA'⟩, hout, hF', ek, en⟩ := hq
    subst ek; subst en
    rw [hst1] at hF'
    match r, hout, h with
    | none, hout, h => obtain ⟨x, q, -⟩ := hout; cases q
    | some v0, hout, h =>
      have hout : v = if rt then some (.int v0) else none := Outcome.returned.inj hout
      refine gj_back hA hF hW' hA' hF' (gj_l hdc ha (by simp [sucs]) rfl hl) (st1 := if rt then .inl v0 :: st else st) ?_ h
      subst hout
      cases rt with
      | true => exact ⟨rfl, hrest.go hA'⟩
      | false => exact hrest.go hA'
  · intro x st1 t Lw k n hst1 hq
    obtain ⟨⟨A', hW', hA'⟩, hout, hF', ek, en⟩ := hq
    subst ek; subst en
    rw [hst1] at hF'
    match r, hout, h with
    | some v0, hout, h => cases hout
    | none, hout, h =>
      obtain ⟨x', q, hexc⟩ := hout
      cases q
      have := hTh pc _ 3 D L σ' x ls rest t.heap (locs ++ Lw) A' ha (by simpa [Dof, ha] using hl) h hW' (hA.trans hA') (hF.call hF') hexc
      have q1 : σ.2.2.2.1 - σ0.2.2.2.1 + (σ'.2.2.2.1 - σ.2.2.2.1) = σ'.2.2.2.1 - σ0.2.2.2.1 := by
        have := hA'.2.2.2.1
        omega
      have q2 : σ.2.2.2.2 - σ0.2.2.2.2 + (σ'.2.2.2.2 - σ.2.2.2.2) = σ'.2.2.2.2 - σ0.2.2.2.2 := by
        have := hA'.2.2.2.2.1
        omega
      rw [q1, q2]
      exact this
theorem W.iretT {H : Heap} {locs : List Loc} {cells slots : Nat} {Qc : Array Value → State → Outcome → State → List Loc → Nat → Nat → Prop} {v : Int32} {ty : FieldType} (hexec : p.tables.exec = Jvm.exec) (hb : c.code = cc) (hr : meth.sig.returnType = some ty) (hn : narrow ty (.int v) = .int v)
    (hq : ∀ t : State, t.heap = H → Qc args s (.returned (some (.int v))) t locs cells slots) {ls : Array Slot} (hdg : decode cc pc = .ok (.ireturn, 1)) (hlocks : meth.locks = false) : W p l e R s m args below meth c H locs cells slots (QT below Qc args s) (F0 m pc ls [.int v]) := by
  intro T hT X
  obtain ⟨fs, hret, hrun, hended, hW, hframe⟩ := X.leave (v := some (.int v)) (fun h => by rw [hr] at h; cases h)
  have hmeth' : T.vm.method? m = some meth := X.method'
  refine ⟨T.setFrames fs, ?_, .returned (some (.int v)), hrun, hended, locs, cells, slots, hq _ hT, hW, hframe⟩
  jvm_step X.here [X.here.top, hexec, hb, hdg, hmeth', hr, hn]
  (try refine ⟨rfl, ?_⟩); (try refine ⟨rfl, ?_⟩)
  first | (intro acts; rw [hret _ acts rfl rfl rfl]) | rw [hret _ _ rfl rfl rfl]
  exact Steps.refl _
theorem W.vretT {H : Heap} {locs : List Loc} {cells slots : Nat} {Qc : Array Value → State → Outcome → State → List Loc → Nat → Nat → Prop} (hexec : p.tables.exec = Jvm.exec) (hb : c.code = cc) (hr : meth.sig.returnType = none)
    (hq : ∀ t : State, t.heap = H → Qc args s (.returned none) t locs cells slots) {ls : Array Slot} (hdg : decode cc pc = .ok (.return_, 1)) (hlocks : meth.locks = false) : W p l e R s m args below meth c H locs cells slots (QT below Qc args s) (F0 m pc ls []) := by
  intro T hT X
  obtain ⟨fs, hret, hrun, hended, hW, hframe⟩ := X.leave (v := none) (fun _ => rfl)
  have hmeth' : T.vm.method? m = some meth := X.method'
  refine ⟨T.setFrames fs, ?_, .returned none, hrun, hended, locs, cells, slots, hq _ hT, hW, hframe⟩
  jvm_step X.here [X.here.top, hexec, hb, hdg, hmeth', hr]
  (try refine ⟨rfl, ?_⟩); (try refine ⟨rfl, ?_⟩)
  first | (intro acts; rw [hret _ acts rfl rfl rfl]) | rw [hret _ _ rfl rfl rfl]
  exact Steps.refl _
theorem WT.leave {H : Heap} {locs : List Loc} {cells slots : Nat} {Qc : Array Value → State → Outcome → State → List Loc → Nat → Nat → Prop} {x : Addr} {ls : Array Slot} {rest : List Value} (hout : ∀ z ∈ c.exceptionTable.toList, covers z pc = false) (hlocks : meth.locks = false)
    (hq : ∀ t : State, t.heap = H → Qc args s (.threw x) t locs cells slots) : WT p l e R s m args below meth c H locs cells slots (QT below Qc args s) (F0 m pc ls rest) x := by
  intro T hT X
  obtain ⟨hwalk, hrun, hend, hW, hsame⟩ := X.leaveThrown x (g := F0 m pc ls rest) rfl rfl rfl hout
  exact ⟨_, hwalk, .threw x, hrun, hend, locs, cells, slots, hq _ hT, hW, hsame⟩
end GD
