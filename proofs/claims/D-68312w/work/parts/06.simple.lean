/-! the plain instructions keep the points -/
theorem dchk_at {inst : Bool} {nL : Nat} {hs : Nat → Option Nat} {tb : TB} (h : dchk inst nL hs tb = true) {pc : Nat} {i : Instr} {len : Nat} {D : List Nat} (ha : alook tb pc = some (i, len, D)) :
    jok i pc = true ∧ (∀ k ∈ usesOf i, k ∈ D) ∧ (∀ k ∈ storesOf i ++ killsOf i, k < nL ∧ (inst = true → k ≠ 0)) ∧ (∀ z ∈ sucs i len pc, ∀ k ∈ Dof tb z, (k ∈ D ∨ k ∈ storesOf i) ∧ k ∉ killsOf i) ∧
    ((∀ d lo hi offs, i ≠ .tableswitch d lo hi offs) → (∀ d ps, i ≠ .lookupswitch d ps) → len = lenOf i) ∧ ∀ z, hs pc = some z → ∀ k ∈ Dof tb z, k ∈ D := by
  have h1 := List.all_eq_true.mp h _ (alook_mem ha)
  simp only [Bool.and_eq_true] at h1
  obtain ⟨⟨⟨⟨⟨a1, a2⟩, a3⟩, a4⟩, a5⟩, a6⟩ := h1
  refine ⟨a1, fun k hk => ?_, fun k hk => ?_, fun z hz k hk => ?_, fun n1 n2 => ?_, fun z hz k hk => ?_⟩
  · simpa using List.all_eq_true.mp a2 k hk
  · have := List.all_eq_true.mp a3 k hk
    simp only [Bool.and_eq_true, decide_eq_true_eq, Bool.or_eq_true, Bool.not_eq_true'] at this
    refine ⟨this.1, fun hi => ?_⟩
    rcases this.2 with h2 | h2
    · rw [hi] at h2; cases h2
    · exact h2
  · have := List.all_eq_true.mp (List.all_eq_true.mp a4 z hz) k hk
    simp only [Bool.and_eq_true, List.contains_eq_mem, List.mem_append, decide_eq_true_eq, Bool.not_eq_true', decide_eq_false_iff_not] at this
    exact this
  · cases i <;> first | exact absurd rfl (n1 _ _ _ _) | exact absurd rfl (n2 _ _) | exact Nat.eq_of_beq_eq_true a5
  · rw [hz] at a6
    simpa using List.all_eq_true.mp a6 k hk
theorem jm_of {pc : Nat} {off : Int} (h : 0 ≤ (pc : Int) + off) : (pc : Int) + off = ((jm pc off : Nat) : Int) := (Int.toNat_of_nonneg h).symm
def GJ (p : Program) (l : Launch) (e : Env) (R : Room) (s : State) (m : MethodId) (args : Array Value) (below : List Frame) (meth : Method) (c : Code) (QQ : State → Prop) (kd : Nat → Nat) (w : WP) (tb : TB) (inst : Bool) (nL : Nat) (A0 : Nat → Nat) (σ0 : SS) (pc : Nat) (L : LL) (st : List AV) (σ : SS) : Prop :=
  ∀ (ls : Array Slot) (stc : List Value) (H : Heap) (locs : List Loc) (A : Nat → Nat), lv_has ls nL (lrel inst (A0 0) (Dof tb pc) L) → stR σ A st stc → WR kd w A σ H → AG A0 A σ0 σ → FR w s.heap H locs →
    W p l e R s m args below meth c H locs (σ.2.2.2.1 - σ0.2.2.2.1) (σ.2.2.2.2 - σ0.2.2.2.2) QQ (F0 m pc ls stc)
section GS
variable {p : Program} {l : Launch} {e : Env} {R : Room} {s : State} {m : MethodId} {args : Array Value} {below : List Frame} {meth : Method} {c : Code} {QQ : State → Prop} {kd : Nat → Nat} {w : WP} {tb : TB} {inst : Bool} {nL : Nat} {hs : Nat → Option Nat} {A0 : Nat → Nat} {σ0 : SS} {pc : Nat} {L : LL} {st : List AV} {σ : SS} {cc : ByteArray} {D : List Nat} {len : Nat}
theorem gj_l (hdc : dchk inst nL hs tb = true) {i : Instr} (ha : alook tb pc = some (i, len, D)) {z : Nat} (hz : z ∈ sucs i len pc) (hs0 : storesOf i = []) {ls : Array Slot} {o : Nat} (hl : lv_has ls nL (lrel inst o (Dof tb pc) L)) : lv_has ls nL (lrel inst o (Dof tb z) L) := by
  refine lrel.sub hl fun q hq => ?_
  rcases lrel.mem.mp hq with h | ⟨k, hk, h⟩
  · exact lrel.mem.mpr (Or.inl h)
  · refine lrel.mem.mpr (Or.inr ⟨k, ?_, h⟩)
    rcases ((dchk_at hdc ha).2.2.2.1 z hz k hk).1 with h1 | h1
    · simpa [Dof, ha] using h1
    · rw [hs0] at h1; cases h1
theorem gj_st (hdc : dchk inst nL hs tb = true) {i : Instr} (ha : alook tb pc = some (i, len, D)) {z : Nat} (hz : z ∈ sucs i len pc) {j : Nat} (hs0 : storesOf i = [j]) {v : Int32} {ls' : Array Slot} {o : Nat} (hl : lv_has ls' nL ((j, Value.int v) :: (lrel inst o (Dof tb pc) L).filter (fun q => !(q.1 == j) && !(q.1 + 1 == j && q.2.category == 2)))) : lv_has ls' nL (lrel inst o (Dof tb z) (va_up L j v)) := by
  have hA := dchk_at hdc ha
  refine lrel.sub hl fun q hq => ?_
  rcases lrel.mem.mp hq with ⟨h, e⟩ | ⟨k, hk, e⟩
  · refine List.mem_cons_of_mem _ (List.mem_filter.mpr ⟨lrel.mem.mpr (Or.inl ⟨h, e⟩), ?_⟩)
    have hj : j ≠ 0 := (hA.2.2.1 j (by rw [hs0]; simp)).2 h
    subst e
    simp [Value.category]
    exact fun e => hj e.symm
  · by_cases hkj : k = j
    · subst hkj
      rw [e, va_up_self]
      exact List.mem_cons_self
    · rw [va_up_ne _ _ hkj] at e
      refine List.mem_cons_of_mem _ (List.mem_filter.mpr ⟨lrel.mem.mpr (Or.inr ⟨k, ?_, e⟩), ?_⟩)
      · rcases (hA.2.2.2.1 z hz k hk).1 with h1 | h1
        · simpa [Dof, ha] using h1
        · rw [hs0] at h1
          exact absurd (List.mem_singleton.mp h1) hkj
      · subst e
        simp [Value.category, hkj]
theorem gj_kill (hdc : dchk inst nL hs tb = true) {i : Instr} (ha : alook tb pc = some (i, len, D)) {z : Nat} (hz : z ∈ sucs i len pc) {j : Nat} (hs0 : storesOf i = []) (hk0 : killsOf i = [j]) {x : Nat} {ls' : Array Slot} {o : Nat} (hl : lv_has ls' nL ((j, Value.ref x) :: (lrel inst o (Dof tb pc) L).filter (fun q => !(q.1 == j) && !(q.1 + 1 == j && q.2.category == 2)))) : lv_has ls' nL (lrel inst o (Dof tb z) L) := by
  have hA := dchk_at hdc ha
  refine lrel.sub hl fun q hq => ?_
  rcases lrel.mem.mp hq with ⟨h, e⟩ | ⟨k, hk, e⟩
  · refine List.mem_cons_of_mem _ (List.mem_filter.mpr ⟨lrel.mem.mpr (Or.inl ⟨h, e⟩), ?_⟩)
    have hj : j ≠ 0 := (hA.2.2.1 j (by rw [hs0, hk0]; simp)).2 h
    subst e
    simp [Value.category]
    exact fun e => hj e.symm
  · obtain ⟨h1, h2⟩ := hA.2.2.2.1 z hz k hk
    rw [hk0] at h2
    have hkj : k ≠ j := fun e => h2 (List.mem_singleton.mpr e)
    refine List.mem_cons_of_mem _ (List.mem_filter.mpr ⟨lrel.mem.mpr (Or.inr ⟨k, ?_, e⟩), ?_⟩)
    · rcases h1 with h1 | h1
      · simpa [Dof, ha] using h1
      · rw [hs0] at h1; cases h1
    · subst e
      simp [Value.category, hkj]
theorem gj_rd (hdc : dchk inst nL hs tb = true) {i : Instr} (ha : alook tb pc = some (i, len, D)) {j : Nat} (hu : j ∈ usesOf i) {ls : Array Slot} {o : Nat} (hl : lv_has ls nL (lrel inst o (Dof tb pc) L)) : ls[j]? = some (.val (.int (L j))) :=
  hl.2.2 (j, .int (L j)) (lrel.mem.mpr (Or.inr ⟨j, by simpa [Dof, ha] using (dchk_at hdc ha).2.1 j hu, rfl⟩))
variable (hx : p.tables.exec = Jvm.exec) (hb : c.code = cc) (hdc : dchk inst nL hs tb = true)
theorem gj_push1 {i : Instr} {v : Int32} (hdc : dchk inst nL hs tb = true) (ha : alook tb pc = some (i, len, D)) (hsu : sucs i len pc = [pc + len]) (hs0 : storesOf i = [])
    (row : ∀ (ls : Array Slot) (stc : List Value) (H : Heap) (locs : List Loc) (k n : Nat), lv_has ls nL (lrel inst (A0 0) (Dof tb pc) L) → W p l e R s m args below meth c H locs k n QQ (F0 m (pc + len) ls (.int v :: stc)) → W p l e R s m args below meth c H locs k n QQ (F0 m pc ls stc))
    (h : GJ p l e R s m args below meth c QQ kd w tb inst nL A0 σ0 (pc + len) L (.inl v :: st) σ) : GJ p l e R s m args below meth c QQ kd w tb inst nL A0 σ0 pc L st σ := by
  intro ls stc H locs A hl hst hW hA hF
  exact row ls stc H locs _ _ hl (h ls _ H locs A (gj_l hdc ha (by rw [hsu]; simp) hs0 hl) ⟨rfl, hst⟩ hW hA hF)
theorem gj_bin {i : Instr} {x y v : Int32} (hdc : dchk inst nL hs tb = true) (ha : alook tb pc = some (i, len, D)) (hsu : sucs i len pc = [pc + len]) (hs0 : storesOf i = [])
    (row : ∀ (ls : Array Slot) (stc : List Value) (H : Heap) (locs : List Loc) (k n : Nat), W p l e R s m args below meth c H locs k n QQ (F0 m (pc + len) ls (.int v :: stc)) → W p l e R s m args below meth c H locs k n QQ (F0 m pc ls (.int y :: .int x :: stc)))
    (h : GJ p l e R s m args below meth c QQ kd w tb inst nL A0 σ0 (pc + len) L (.inl v :: st) σ) : GJ p l e R s m args below meth c QQ kd w tb inst nL A0 σ0 pc L (.inl y :: .inl x :: st) σ := by
  intro ls stc H locs A hl hst hW hA hF
  obtain ⟨r1, e1, hst1⟩ := hst.int
  obtain ⟨r, e2, hst2⟩ := hst1.int
  subst e2; subst e1
  replace hst := hst2
  exact row ls r H locs _ _ (h ls _ H locs A (gj_l hdc ha (by rw [hsu]; simp) hs0 hl) ⟨rfl, hst⟩ hW hA hF)
theorem gj_un {i : Instr} {x v : Int32} (hdc : dchk inst nL hs tb = true) (ha : alook tb pc = some (i, len, D)) (hsu : sucs i len pc = [pc + len]) (hs0 : storesOf i = [])
    (row : ∀ (ls : Array Slot) (stc : List Value) (H : Heap) (locs : List Loc) (k n : Nat), W p l e R s m args below meth c H locs k n QQ (F0 m (pc + len) ls (.int v :: stc)) → W p l e R s m args below meth c H locs k n QQ (F0 m pc ls (.int x :: stc)))
    (h : GJ p l e R s m args below meth c QQ kd w tb inst nL A0 σ0 (pc + len) L (.inl v :: st) σ) : GJ p l e R s m args below meth c QQ kd w tb inst nL A0 σ0 pc L (.inl x :: st) σ := by
  intro ls stc H locs A hl hst hW hA hF
  obtain ⟨r, e1, hst1⟩ := hst.int
  subst e1
  replace hst := hst1
  exact row ls r H locs _ _ (h ls _ H locs A (gj_l hdc ha (by rw [hsu]; simp) hs0 hl) ⟨rfl, hst⟩ hW hA hF)
theorem gj_store {i : Instr} {j : Nat} {x : Int32} (hdc : dchk inst nL hs tb = true) (ha : alook tb pc = some (i, len, D)) (hsu : sucs i len pc = [pc + len]) (hs0 : storesOf i = [j])
    (row : ∀ (ls : Array Slot) (stc : List Value) (H : Heap) (locs : List Loc) (k n : Nat) (lv : List (Nat × Value)), lv_has ls nL lv → j < nL → (∀ ls' : Array Slot, lv_has ls' nL ((j, Value.int x) :: lv.filter (fun q => !(q.1 == j) && !(q.1 + 1 == j && q.2.category == 2))) → W p l e R s m args below meth c H locs k n QQ (F0 m (pc + len) ls' stc)) → W p l e R s m args below meth c H locs k n QQ (F0 m pc ls (.int x :: stc)))
    (h : GJ p l e R s m args below meth c QQ kd w tb inst nL A0 σ0 (pc + len) (va_up L j x) st σ) : GJ p l e R s m args below meth c QQ kd w tb inst nL A0 σ0 pc L (.inl x :: st) σ := by
  intro ls stc H locs A hl hst hW hA hF
  obtain ⟨r, e1, hst1⟩ := hst.int
  subst e1
  replace hst := hst1
  exact row ls r H locs _ _ _ hl ((dchk_at hdc ha).2.2.1 j (by rw [hs0]; simp)).1 fun ls' hl' => h ls' _ H locs A (gj_st hdc ha (by rw [hsu]; simp) hs0 hl') hst hW hA hF
theorem gj_iinc {j : Nat} {n : Int} (hdc : dchk inst nL hs tb = true) (ha : alook tb pc = some (.iinc j n, 3, D)) (hx : p.tables.exec = Jvm.exec) (hb : c.code = cc) (hd : decode cc pc = .ok (.iinc j n, 3))
    (h : GJ p l e R s m args below meth c QQ kd w tb inst nL A0 σ0 (pc + 3) (va_up L j (L j + Int32.ofInt n)) st σ) : GJ p l e R s m args below meth c QQ kd w tb inst nL A0 σ0 pc L st σ := by
  intro ls stc H locs A hl hst hW hA hF
  have hj := gj_rd hdc ha (j := j) (by simp [usesOf]) hl
  have hjn : j < nL := ((dchk_at hdc ha).2.2.1 j (by simp [storesOf])).1
  have hl1 : lv_has ls nL ((j, .int (L j)) :: lrel inst (A0 0) (Dof tb pc) L) := ⟨hl.1, hl.2.1, fun q hq => by
    rcases List.mem_cons.mp hq with h1 | h1
    · rw [h1]; exact hj
    · exact hl.2.2 q h1⟩
  refine lv_iinc (k := 0) (v := L j + Int32.ofInt n) hx hb hd hl1 rfl rfl hjn rfl fun ls' hl' => ?_
  refine h ls' _ H locs A (gj_st hdc ha (z := pc + 3) (by simp [sucs]) (j := j) rfl (lrel.sub hl' fun q hq => ?_)) hst hW hA hF
  rcases List.mem_cons.mp hq with h1 | h1
  · rw [h1]; exact List.mem_cons_self
  · obtain ⟨h2, h3⟩ := List.mem_filter.mp h1
    exact List.mem_cons_of_mem _ (List.mem_filter.mpr ⟨List.mem_cons_of_mem _ h2, h3⟩)
theorem gj_this (hdc : dchk inst nL hs tb = true) {k : Fin 4} (ha : alook tb pc = some (.aload_n k, 1, D)) (hi : inst = true) (hk : k.val = 0) (hx : p.tables.exec = Jvm.exec) (hb : c.code = cc) (hd : decode cc pc = .ok (.aload_n k, 1))
    (h : GJ p l e R s m args below meth c QQ kd w tb inst nL A0 σ0 (pc + 1) L (.inr (1, 0) :: st) σ) : GJ p l e R s m args below meth c QQ kd w tb inst nL A0 σ0 pc L st σ := by
  intro ls stc H locs A hl hst hW hA hF
  refine lv_aload_n (i := 0) hx hb hd hk (hl.2.2 (0, .ref (A0 0)) (lrel.mem.mpr (Or.inl ⟨hi, rfl⟩))) ?_
  exact h ls _ H locs A (gj_l hdc ha (by simp [sucs]) rfl hl) ⟨by show Value.ref (A0 0) = Value.ref (A 0); rw [hA.1], hst⟩ hW hA hF
theorem gj_goto (hdc : dchk inst nL hs tb = true) {off : Int} (ha : alook tb pc = some (.goto off, 3, D)) (hx : p.tables.exec = Jvm.exec) (hb : c.code = cc) (hd : decode cc pc = .ok (.goto off, 3))
    (h : GJ p l e R s m args below meth c QQ kd w tb inst nL A0 σ0 (jm pc off) L st σ) : GJ p l e R s m args below meth c QQ kd w tb inst nL A0 σ0 pc L st σ := by
  intro ls stc H locs A hl hst hW hA hF
  have hj : 0 ≤ (pc : Int) + off := by simpa [jok] using (dchk_at hdc ha).1
  exact lv_goto hx hb hd (jm_of hj) (h ls _ H locs A (gj_l hdc ha (by simp [sucs]) rfl hl) hst hW hA hF)
theorem gj_icmp (hdc : dchk inst nL hs tb = true) {cd : ClassFile.Cond} {off : Int} (ha : alook tb pc = some (.if_icmp cd off, 3, D)) (hx : p.tables.exec = Jvm.exec) (hb : c.code = cc) (hd : decode cc pc = .ok (.if_icmp cd off, 3)) {x y : Int32}
    (h : if holdC cd x y then GJ p l e R s m args below meth c QQ kd w tb inst nL A0 σ0 (jm pc off) L st σ else GJ p l e R s m args below meth c QQ kd w tb inst nL A0 σ0 (pc + 3) L st σ) : GJ p l e R s m args below meth c QQ kd w tb inst nL A0 σ0 pc L (.inl y :: .inl x :: st) σ := by
  intro ls stc H locs A hl hst hW hA hF
  obtain ⟨r1, e1, hst1⟩ := hst.int
  obtain ⟨r, e2, hst2⟩ := hst1.int
  subst e2; subst e1
  replace hst := hst2
  have hj : 0 ≤ (pc : Int) + off := by simpa [jok] using (dchk_at hdc ha).1
  have ht := fun (q : GJ p l e R s m args below meth c QQ kd w tb inst nL A0 σ0 (jm pc off) L st σ) => q ls _ H locs A (gj_l hdc ha (by simp [sucs]) rfl hl) hst hW hA hF
  have hf := fun (q : GJ p l e R s m args below meth c QQ kd w tb inst nL A0 σ0 (pc + 3) L st σ) => q ls _ H locs A (gj_l hdc ha (by simp [sucs]) rfl hl) hst hW hA hF
  cases cd with
  | eq => exact lv_icmp_eq hx hb hd (jm_of hj) (fun q => ht (by simpa [holdC, q] using h)) (fun q => hf (by simpa [holdC, q] using h))
  | ne => exact lv_icmp_ne hx hb hd (jm_of hj) (fun q => ht (by simpa [holdC, q] using h)) (fun q => hf (by simpa [holdC, q] using h))
  | lt => exact lv_icmp_lt hx hb hd (jm_of hj) (fun q => ht (by simpa [holdC, q] using h)) (fun q => hf (by simpa [holdC, q] using h))
  | ge => exact lv_icmp_ge hx hb hd (jm_of hj) (fun q => ht (by simpa [holdC, q] using h)) (fun q => hf (by simpa [holdC, q] using h))
  | gt => exact lv_icmp_gt hx hb hd (jm_of hj) (fun q => ht (by simpa [holdC, q] using h)) (fun q => hf (by simpa [holdC, q] using h))
  | le => exact lv_icmp_le hx hb hd (jm_of hj) (fun q => ht (by simpa [holdC, q] using h)) (fun q => hf (by simpa [holdC, q] using h))
theorem gj_if (hdc : dchk inst nL hs tb = true) {cd : ClassFile.Cond} {off : Int} (ha : alook tb pc = some (.ifCond cd off, 3, D)) (hx : p.tables.exec = Jvm.exec) (hb : c.code = cc) (hd : decode cc pc = .ok (.ifCond cd off, 3)) {x : Int32}
    (h : if holdC cd x 0 then GJ p l e R s m args below meth c QQ kd w tb inst nL A0 σ0 (jm pc off) L st σ else GJ p l e R s m args below meth c QQ kd w tb inst nL A0 σ0 (pc + 3) L st σ) : GJ p l e R s m args below meth c QQ kd w tb inst nL A0 σ0 pc L (.inl x :: st) σ := by
  intro ls stc H locs A hl hst hW hA hF
  obtain ⟨r, e1, hst1⟩ := hst.int
  subst e1
  replace hst := hst1
  have hj : 0 ≤ (pc : Int) + off := by simpa [jok] using (dchk_at hdc ha).1
  have ht := fun (q : GJ p l e R s m args below meth c QQ kd w tb inst nL A0 σ0 (jm pc off) L st σ) => q ls _ H locs A (gj_l hdc ha (by simp [sucs]) rfl hl) hst hW hA hF
  have hf := fun (q : GJ p l e R s m args below meth c QQ kd w tb inst nL A0 σ0 (pc + 3) L st σ) => q ls _ H locs A (gj_l hdc ha (by simp [sucs]) rfl hl) hst hW hA hF
  cases cd with
  | eq => exact lv_if_eq hx hb hd (jm_of hj) (fun q => ht (by simpa [holdC, q] using h)) (fun q => hf (by simpa [holdC, q] using h))
  | ne => exact lv_if_ne hx hb hd (jm_of hj) (fun q => ht (by simpa [holdC, q] using h)) (fun q => hf (by simpa [holdC, q] using h))
  | lt => exact lv_if_lt hx hb hd (jm_of hj) (fun q => ht (by simpa [holdC, q] using h)) (fun q => hf (by simpa [holdC, q] using h))
  | ge => exact lv_if_ge hx hb hd (jm_of hj) (fun q => ht (by simpa [holdC, q] using h)) (fun q => hf (by simpa [holdC, q] using h))
  | gt => exact lv_if_gt hx hb hd (jm_of hj) (fun q => ht (by simpa [holdC, q] using h)) (fun q => hf (by simpa [holdC, q] using h))
  | le => exact lv_if_le hx hb hd (jm_of hj) (fun q => ht (by simpa [holdC, q] using h)) (fun q => hf (by simpa [holdC, q] using h))
theorem gj_tsw (hdc : dchk inst nL hs tb = true) {d lo hi : Int} {offs : Array Int} (ha : alook tb pc = some (.tableswitch d lo hi offs, len, D)) (hx : p.tables.exec = Jvm.exec) (hb : c.code = cc) (hd : decode cc pc = .ok (.tableswitch d lo hi offs, len)) {x : Int32} {q : Nat} (hq : tsw pc d lo hi offs x = some q)
    (h : GJ p l e R s m args below meth c QQ kd w tb inst nL A0 σ0 q L st σ) : GJ p l e R s m args below meth c QQ kd w tb inst nL A0 σ0 pc L (.inl x :: st) σ := by
  intro ls stc H locs A hl hst hW hA hF
  obtain ⟨r, e1, hst1⟩ := hst.int
  subst e1
  replace hst := hst1
  have hj := (dchk_at hdc ha).1
  simp only [jok, Bool.and_eq_true, decide_eq_true_eq] at hj
  unfold tsw at hq
  by_cases hc : x.toInt < lo ∨ hi < x.toInt
  · rw [if_pos hc] at hq
    have hq := Option.some.inj hq
    subst hq
    exact lv_tableOut hx hb hd hc (jm_of hj.1) (h ls _ H locs A (gj_l hdc ha (by simp [sucs]) rfl hl) hst hW hA hF)
  · rw [if_neg hc] at hq
    obtain ⟨o, ho, hq⟩ := Option.map_eq_some_iff.mp hq
    subst hq
    have hm : o ∈ offs.toList := Array.mem_def.mp (Array.mem_of_getElem? ho)
    refine lv_tableIn hx hb hd (fun q => hc (Or.inl q)) (fun q => hc (Or.inr q)) ho (jm_of (by simpa using List.all_eq_true.mp hj.2 o hm)) (h ls _ H locs A (gj_l hdc ha ?_ rfl hl) hst hW hA hF)
    exact List.mem_cons_of_mem _ (List.mem_map.mpr ⟨o, hm, rfl⟩)
theorem lsw_mem (d x : Int) : ∀ (ps : List (Int × Int)), Op.lookupswitch.offset ps d x = d ∨ ∃ q ∈ ps, q.2 = Op.lookupswitch.offset ps d x := by
  intro ps
  induction ps with
  | nil => exact Or.inl rfl
  | cons a t ih =>
    obtain ⟨k, o⟩ := a
    unfold Op.lookupswitch.offset
    split
    · exact Or.inr ⟨(k, o), List.mem_cons_self, rfl⟩
    · rcases ih with h | ⟨q, hq, h⟩
      · exact Or.inl h
      · exact Or.inr ⟨q, List.mem_cons_of_mem _ hq, h⟩
theorem gj_lsw (hdc : dchk inst nL hs tb = true) {d : Int} {ps : Array (Int × Int)} (ha : alook tb pc = some (.lookupswitch d ps, len, D)) (hx : p.tables.exec = Jvm.exec) (hb : c.code = cc) (hd : decode cc pc = .ok (.lookupswitch d ps, len)) {x : Int32}
    (h : GJ p l e R s m args below meth c QQ kd w tb inst nL A0 σ0 (jm pc (Op.lookupswitch.offset ps.toList d x.toInt)) L st σ) : GJ p l e R s m args below meth c QQ kd w tb inst nL A0 σ0 pc L (.inl x :: st) σ := by
  intro ls stc H locs A hl hst hW hA hF
  obtain ⟨r, e1, hst1⟩ := hst.int
  subst e1
  have hj := (dchk_at hdc ha).1
  simp only [jok, Bool.and_eq_true, decide_eq_true_eq] at hj
  have hin : jm pc (Op.lookupswitch.offset ps.toList d x.toInt) ∈ sucs (.lookupswitch d ps) len pc ∧ 0 ≤ (pc : Int) + Op.lookupswitch.offset ps.toList d x.toInt := by
    rcases lsw_mem d x.toInt ps.toList with h | ⟨q, hq, h⟩
    · rw [h]
      exact ⟨List.mem_cons_self, hj.1.1⟩
    · rw [← h]
      exact ⟨List.mem_cons_of_mem _ (List.mem_map.mpr ⟨q, hq, rfl⟩), by simpa using List.all_eq_true.mp hj.1.2 q hq⟩
  exact lv_lookup hx hb hd hj.2 rfl (jm_of hin.2) (h ls _ H locs A (gj_l hdc ha hin.1 rfl hl) hst1 hW hA hF)
theorem gj_dup (hdc : dchk inst nL hs tb = true) (ha : alook tb pc = some (.dup, 1, D)) (hx : p.tables.exec = Jvm.exec) (hb : c.code = cc) (hd : decode cc pc = .ok (.dup, 1)) {a : AV}
    (h : GJ p l e R s m args below meth c QQ kd w tb inst nL A0 σ0 (pc + 1) L (a :: a :: st) σ) : GJ p l e R s m args below meth c QQ kd w tb inst nL A0 σ0 pc L (a :: st) σ := by
  intro ls stc H locs A hl hst hW hA hF
  obtain ⟨x, r, e1, h1, h2⟩ := hst.cons
  subst e1
  exact lv_dup hx hb hd h1.cat (h ls _ H locs A (gj_l hdc ha (by simp [sucs]) rfl hl) ⟨h1, h1, h2⟩ hW hA hF)
theorem gj_dup_x1 (hdc : dchk inst nL hs tb = true) (ha : alook tb pc = some (.dup_x1, 1, D)) (hx : p.tables.exec = Jvm.exec) (hb : c.code = cc) (hd : decode cc pc = .ok (.dup_x1, 1)) {a b : AV}
    (h : GJ p l e R s m args below meth c QQ kd w tb inst nL A0 σ0 (pc + 1) L (a :: b :: a :: st) σ) : GJ p l e R s m args below meth c QQ kd w tb inst nL A0 σ0 pc L (a :: b :: st) σ := by
  intro ls stc H locs A hl hst hW hA hF
  obtain ⟨x, r1, e1, h1, hst1⟩ := hst.cons
  obtain ⟨y, r, e2, h2, h3⟩ := hst1.cons
  subst e2; subst e1
  exact lv_dup_x1 hx hb hd h1.cat h2.cat (h ls _ H locs A (gj_l hdc ha (by simp [sucs]) rfl hl) ⟨h1, h2, h1, h3⟩ hW hA hF)
theorem gj_pop (hdc : dchk inst nL hs tb = true) (ha : alook tb pc = some (.pop, 1, D)) (hx : p.tables.exec = Jvm.exec) (hb : c.code = cc) (hd : decode cc pc = .ok (.pop, 1)) {a : AV}
    (h : GJ p l e R s m args below meth c QQ kd w tb inst nL A0 σ0 (pc + 1) L st σ) : GJ p l e R s m args below meth c QQ kd w tb inst nL A0 σ0 pc L (a :: st) σ := by
  intro ls stc H locs A hl hst hW hA hF
  obtain ⟨x, r, e1, h1, h2⟩ := hst.cons
  subst e1
  exact lv_pop hx hb hd h1.cat (h ls _ H locs A (gj_l hdc ha (by simp [sucs]) rfl hl) h2 hW hA hF)
theorem gj_astore {i : Instr} {j z : Nat} (hdc : dchk inst nL hs tb = true) (ha : alook tb pc = some (i, len, D)) (hsu : sucs i len pc = [pc + len]) (hs0 : storesOf i = []) (hk0 : killsOf i = [j])
    (row : ∀ (ls : Array Slot) (stc : List Value) (H : Heap) (locs : List Loc) (k n x : Nat) (lv : List (Nat × Value)), lv_has ls nL lv → j < nL → (∀ ls' : Array Slot, lv_has ls' nL ((j, Value.ref x) :: lv.filter (fun q => !(q.1 == j) && !(q.1 + 1 == j && q.2.category == 2))) → W p l e R s m args below meth c H locs k n QQ (F0 m (pc + len) ls' stc)) → W p l e R s m args below meth c H locs k n QQ (F0 m pc ls (.ref x :: stc)))
    (h : GJ p l e R s m args below meth c QQ kd w tb inst nL A0 σ0 (pc + len) L st σ) : GJ p l e R s m args below meth c QQ kd w tb inst nL A0 σ0 pc L (.inr (0, z) :: st) σ := by
  intro ls stc H locs A hl hst hW hA hF
  obtain ⟨x, r, e1, ⟨b, e2⟩, h2⟩ := hst.cons
  subst e2; subst e1
  exact row ls r H locs _ _ b _ hl ((dchk_at hdc ha).2.2.1 j (by rw [hs0, hk0]; simp)).1 fun ls' hl' => h ls' _ H locs A (gj_kill hdc ha (by rw [hsu]; simp) hs0 hk0 hl') h2 hW hA hF
end GS
