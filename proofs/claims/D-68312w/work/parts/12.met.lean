/-! from the abstract machine's runs to contracts -/
def L0of (inst : Bool) (as : List Int32) : LL := fun k => if inst then as.getD (k - 1) 0 else as.getD k 0
/-- from the start of the code, whatever keeps the points and holds at the end holds -/
def RUNS (cf : CF) (rec : RC) (tb : TB) (hs : Nat → Option Nat) (rt : Bool) (L : LL) (σ : SS) (r : Option Int32) (σ' : SS) : Prop :=
  ∀ (G : Nat → LL → List AV → SS → Prop) (Ret : Option Int32 → SS → Prop) (Rt : SS → Prop), GOK cf rec tb G Ret (ThJ G hs Rt) → (match r with | some v => Ret (if rt then some v else none) σ' | none => Rt σ') → G 0 L [] σ
def tbok (cc : ByteArray) (tb : TB) : Bool := tb.all fun q => decide (decode cc q.1 = .ok (q.2.1, q.2.2.1))
theorem tbok_at {cc : ByteArray} {tb : TB} (h : tbok cc tb = true) (pc : Nat) (i : Instr) (len : Nat) (D : List Nat) (ha : alook tb pc = some (i, len, D)) : decode cc pc = .ok (i, len) := by
  simpa using List.all_eq_true.mp h _ (alook_mem ha)
def entok (inst : Bool) (np nL : Nat) (tb : TB) : Bool := ((Dof tb 0).all fun k => if inst then decide (1 ≤ k) && decide (k ≤ np) else decide (k < np)) && decide ((if inst then 1 else 0) + np ≤ nL)
def noal (inst : Bool) (tb : TB) : Bool := inst || tb.all fun q => match q.2.1 with | .aload_n _ => false | _ => true
theorem noal_of {inst : Bool} {tb : TB} (h : noal inst tb = true) : inst = true ∨ ∀ q ∈ tb, ∀ k, q.2.1 ≠ .aload_n k := by
  unfold noal at h
  rcases Bool.or_eq_true _ _ ▸ h with h | h
  · exact Or.inl h
  · refine Or.inr fun q hq k e => ?_
    have := List.all_eq_true.mp h q hq
    rw [e] at this
    cases this
theorem lv_args_ints : ∀ (as : List Int32) (i k : Nat), k < as.length → (i + k, Value.int (as.getD k 0)) ∈ lv_args i (as.map Value.int) := by
  intro as
  induction as with
  | nil => intro i k h; exact absurd h (Nat.not_lt_zero _)
  | cons a t ih =>
    intro i k h
    cases k with
    | zero => exact List.mem_cons_self
    | succ k =>
      have := ih (i + 1) k (by simpa using h)
      refine List.mem_cons_of_mem _ ?_
      rw [show i + (k + 1) = i + 1 + k by omega]
      exact this
theorem lg_sl_len : ∀ (as : List Int32), (lg_sl (as.map Value.int)).length = as.length := by
  intro as
  induction as with
  | nil => rfl
  | cons a t ih =>
    show (([Slot.val (.int a)] : List Slot) ++ lg_sl (t.map Value.int)).length = _
    simp [ih]
theorem ent_l {m : MethodId} {inst : Bool} {np nL o : Nat} {tb : TB} {as : List Int32} (he : entok inst np nL tb = true) (hn : as.length = np) : ∃ ls, entryFrame m (argV inst o as).toArray nL = F0 m 0 ls [] ∧ lv_has ls nL (lrel inst o (Dof tb 0) (L0of inst as)) := by
  simp only [entok, Bool.and_eq_true, decide_eq_true_eq] at he
  obtain ⟨he1, he2⟩ := he
  have hlen : (lg_sl (argV inst o as)).length ≤ nL := by
    cases inst with
    | true =>
      show (([Slot.val (.ref o)] : List Slot) ++ lg_sl (as.map Value.int)).length ≤ nL
      rw [List.length_append, lg_sl_len]
      simp at he2 ⊢
      omega
    | false =>
      show (lg_sl (as.map Value.int)).length ≤ nL
      rw [lg_sl_len]
      simp at he2
      omega
  refine ⟨_, lg_entry_eq m (argV inst o as) nL, lrel.sub (lv_entry (argV inst o as) hlen) fun q hq => ?_⟩
  rcases lrel.mem.mp hq with ⟨h, e⟩ | ⟨k, hk, e⟩
  · subst h; subst e
    exact List.mem_cons_self
  · have h1 := List.all_eq_true.mp he1 k hk
    cases inst with
    | true =>
      simp at h1
      subst e
      refine List.mem_cons_of_mem _ ?_
      have := lv_args_ints as 1 (k - 1) (by omega)
      rw [show 1 + (k - 1) = k by omega] at this
      exact this
    | false =>
      simp at h1
      subst e
      have := lv_args_ints as 0 k (by omega)
      rw [Nat.zero_add] at this
      exact this
theorem met_of_runs {l : Launch} {jc : JC} {cf : CF} {w : WP} {ty : Nat → FieldType} {mi : Nat → Option MF} {rec : RC} {nn : Nat} {tb : TB} {cc : ByteArray} {nL np : Nat} {inst rt : Bool} {ret : Option FieldType} {y : MethodName} {as : List Int32} {σ : SS} {r : Option Int32} {σ' : SS}
    (hcf : CFok jc cf ty) (hMI : MIok jc cf mi) (hrec : RECok l jc cf.1 w mi rec nn) (hROW : ROWok l jc cf w) (hy : plainName jc.1 = true) (hyc : y.cls = jc.1)
    (htb : tbok cc tb = true) (hdc : dchk inst nL (fun _ => none) tb = true) (hal : noal inst tb = true) (hent : entok inst np nL tb = true) (hn : as.length = np)
    (hrt : (rt = true ∧ (ret = some .int ∨ ret = some .boolean)) ∨ (rt = false ∧ ret = none)) (hb01 : ret = some .boolean → ∀ v, r = some v → v = 0 ∨ v = 1)
    (hrun : RUNS cf rec tb (fun _ => none) rt (L0of inst as) σ r σ') :
    CTR l jc cf.1 w y (ws_ y cc nL ret) (fun A => argV inst (A 0) as) rt (nn + 1) σ r σ' := by
  intro A
  refine MetFree.of_bodyS (code := cc) (maxLocals := nL) (ret := ret) (by rw [hyc]; exact hy) ?_ ?_
  · intro args s m h hn
    obtain ⟨meth, c, h1, h2, h3, h4, h5, h6, -, -⟩ := Cond.code_spec hn (atoms_spec (ws := ws_ y cc nL ret) h _ List.mem_cons_self)
    exact ⟨meth, c, h1, h2, h3, h4, h5, h6⟩
  · intro p e s m args below meth c s₁ B hml hP _
    obtain ⟨hargs, hW0, hK, hmc, hms⟩ := hP
    subst hargs
    have hts0 := atoms_spec (ws := ws_ y cc nL ret) B.pre
    have hts : ∀ w ∈ lw_all, w.before _ s = true := fun w h => hts0 w (List.mem_cons_of_mem _ h)
    have hown : s.vm.findClass jc.1 = some m.cls := by rw [← hyc]; exact findClass_of_methodNamed B.named
    have hnoh := B.noHandlers (hts0 _ List.mem_cons_self)
    have hout : ∀ (pc : Nat), ∀ z ∈ c.exceptionTable.toList, covers z pc = false := by
      intro pc z hz
      have h0 : c.exceptionTable.toList = [] := by simpa using hnoh
      rw [h0] at hz
      cases hz
    have hlocks := B.notSynchronized
    have hAG0 : AG A A σ σ := ⟨rfl, fun _ => rfl, fun _ => ⟨Nat.le_refl _, fun _ => rfl⟩, Nat.le_refl _, Nat.le_refl _, hmc, hms⟩
    have key : W p l e (rmOf (nn + 1) σ) s m (argV inst (A 0) as).toArray below meth c s.heap [] 0 0 (QT below (PostA cf.1 w rt A σ r σ') (argV inst (A 0) as).toArray s) (entryFrame m (argV inst (A 0) as).toArray nL) := by
      obtain ⟨ls, e1, hl⟩ := ent_l (m := m) (o := A 0) hent hn
      rw [e1]
      have hG := gj_ok (p := p) (l := l) (e := e) (R := rmOf (nn + 1) σ) (s := s) (m := m) (args := (argV inst (A 0) as).toArray) (below := below) (meth := meth) (c := c) (QQ := QT below (PostA cf.1 w rt A σ r σ') (argV inst (A 0) as).toArray s) (cf := cf) (w := w) (tb := tb) (inst := inst) (nL := nL) (hs := fun _ => none) (A0 := A) (σ0 := σ) (cc := cc) (jc := jc) (ty := ty) (mi := mi) (rec := rec) (nn := nn) (Rt := fun σ1 => r = none ∧ σ1 = σ') (Ret := fun v σ1 => ∃ v0, r = some v0 ∧ v = (if rt then some v0 else none) ∧ σ1 = σ')
        B.exec B.bytes (tbok_at htb) hdc (noal_of hal) hts hown hml hK hcf hMI hrec hROW rfl ?_ ?_ ?_
      · have h0 := hrun _ _ _ hG (by
          cases r with
          | some v => exact ⟨v, rfl, rfl, rfl⟩
          | none => exact ⟨rfl, rfl⟩)
        have := h0 ls [] s.heap [] A hl trivial hW0 hAG0 FR.rf
        rw [Nat.sub_self, Nat.sub_self] at this
        exact this
      · intro pc i len D L σ1 x ls rest H locs A1 ha hl hT hW hA hF hexc
        obtain ⟨rfl, rfl⟩ : r = none ∧ σ1 = σ' := hT
        exact WT.leave (hout pc) hlocks fun t ht => ⟨⟨A1, by rw [ht]; exact hW, hA⟩, ⟨x, rfl, by rw [ht]; exact hexc⟩, by rw [ht]; exact hF, rfl, rfl⟩
      · intro pc v σ1 ls H locs A1 hd hR hW hA hF
        obtain ⟨v0, rfl, hv, rfl⟩ := hR
        rcases hrt with ⟨h1, h2⟩ | ⟨h1, h2⟩
        · subst h1
          have hv : v = v0 := Option.some.inj hv
          subst hv
          have hnar : ∃ t, ret = some t ∧ narrow t (.int v) = .int v := by
            rcases h2 with h2 | h2
            · exact ⟨_, h2, rfl⟩
            · refine ⟨_, h2, ?_⟩
              rcases hb01 h2 v rfl with rfl | rfl <;> decide
          obtain ⟨t, e1, e2⟩ := hnar
          exact W.iretT B.exec B.bytes (B.returns.trans e1) e2 (fun t ht => ⟨⟨A1, by rw [ht]; exact hW, hA⟩, rfl, by rw [ht]; exact hF, rfl, rfl⟩) hd hlocks
        · subst h1
          cases hv
      · intro pc σ1 ls H locs A1 hd hR hW hA hF
        obtain ⟨v0, rfl, hv, rfl⟩ := hR
        rcases hrt with ⟨h1, h2⟩ | ⟨h1, h2⟩
        · subst h1
          cases hv
        · subst h1
          exact W.vretT B.exec B.bytes (B.returns.trans h2) (fun t ht => ⟨⟨A1, by rw [ht]; exact hW, hA⟩, rfl, by rw [ht]; exact hF, rfl, rfl⟩) hd hlocks
    have hh0 : s₁.heap = s.heap := by rw [B.state]; rfl
    obtain ⟨t, a1, o, b1, b2, b3⟩ := key s₁ hh0 (Stand.of_body B)
    exact ⟨t, o, a1, b1, b2, b3⟩
