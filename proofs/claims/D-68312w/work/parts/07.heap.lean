/-! fields and arrays keep the points -/
theorem kn_apart {args : Array Value} {s : State} {C : String} {T : u_T} {N : Nat} {Ts : List Cond} {cC : ClassId} {iS : Nat → Nat} (hts : ∀ w ∈ Ts, w.before args s = true) (hin : ∀ w ∈ u_ws C T N, w ∈ Ts) {ty : Nat → FieldType} (hty : ∀ k, k < N → parseFieldDescriptor (T k).2.2.1 = some (ty k)) (hnm : ∀ a, a < N → ∀ b, b < N → a ≠ b → (T a).2.1 ≠ (T b).2.1) (hK : u_Kn s C T N cC iS) : ∀ x y, x < N → y < N → x ≠ y → iS x ≠ iS y := by
  intro x y hx hy hne
  obtain ⟨hS, -⟩ := hK
  obtain ⟨_, _, _, fa, hia, ea⟩ := hS x hx
  obtain ⟨_, _, _, fb, hib, eb⟩ := hS y hy
  rw [← ea, ← eb]
  refine u_apart (u_lays hts hin hx) (u_lays hts hin hy) hia hib ?_
  rw [(State.fieldFound?_type hia (hty x hx)).1, (State.fieldFound?_type hib (hty y hy)).1]
  exact hnm x hx y hy hne
theorem arrIn.kept {c : ClassId} {H H' : Heap} {a n : Nat} {l : List Int32} (h : arrIn c H a n l) (e : H'[a]? = H[a]?) : arrIn c H' a n l := by
  obtain ⟨f, h1, h2⟩ := h
  exact ⟨f, by rw [e]; exact h1, h2⟩
theorem WRow.kept {w : WP} {A A' : Nat → Nat} {σ σ' : SS} {H H' : Heap} {j : Nat} (h : WRow w A σ H j) (e1 : A' (2 * j + 1) = A (2 * j + 1)) (e2 : A' (2 * j + 2) = A (2 * j + 2)) (h1 : H'[A (2 * j + 1)]? = H[A (2 * j + 1)]?) (h2 : H'[A (2 * j + 2)]? = H[A (2 * j + 2)]?) (hR : σ'.2.1 j = σ.2.1 j) (hC : σ'.2.2.1 j = σ.2.2.1 j) : WRow w A' σ' H' j := by
  obtain ⟨a, b, c⟩ := h
  unfold WRow
  rw [e1, e2, hR, hC]
  refine ⟨(a.kept h1).to fun k _ => ?_, b.kept h2, c⟩
  unfold rowV
  rw [e2, hR]
theorem WArr.kept {c : ClassId} {A A' : Nat → Nat} {σ σ' : SS} {H H' : Heap} {j : Nat} (h : WArr c A σ H j) (e1 : A' (2 * j + 1) = A (2 * j + 1)) (h1 : H'[A (2 * j + 1)]? = H[A (2 * j + 1)]?) (hR : σ'.2.1 j = σ.2.1 j) (hC : σ'.2.2.1 j = σ.2.2.1 j) : WArr c A' σ' H' j := by
  obtain ⟨a, b⟩ := h
  unfold WArr
  rw [e1, hR, hC]
  exact ⟨a.kept h1, b⟩
theorem isExc.kept {c : ClassId} {H H' : Heap} {a : Nat} (h : isExc c H a) (e : H'[a]? = H[a]?) : isExc c H' a := by
  obtain ⟨cell, h1, h2⟩ := h
  exact ⟨cell, by rw [e]; exact h1, h2⟩
theorem avR.cap {A : Nat → Nat} {σ σ' : SS} (h : σ'.2.2.1 = σ.2.2.1) {a : AV} {x : Value} (hx : avR σ A a x) : avR σ' A a x := by
  match a, hx with
  | .inl v, hx => exact hx
  | .inr (0, _), hx => exact hx
  | .inr (1, _), hx => exact hx
  | .inr (k + 2, 0), hx => exact hx
  | .inr (k + 2, n + 1), hx =>
    obtain ⟨b, e, hn, hb⟩ := hx
    exact ⟨b, e, by rw [h]; exact hn, by rw [h]; exact hb⟩
theorem stR.cap {A : Nat → Nat} {σ σ' : SS} (h : σ'.2.2.1 = σ.2.2.1) : ∀ {t : List AV} {u : List Value}, stR σ A t u → stR σ' A t u := by
  intro t
  induction t with
  | nil => intro u hu; rw [hu.nil]; trivial
  | cons a t ih =>
    intro u hu
    obtain ⟨x, r, e, h1, h2⟩ := hu.cons
    rw [e]
    exact ⟨h1.cap h, ih h2⟩
/-- one cell of ours is written: all else stays -/
theorem WR.upd {kd : Nat → Nat} {w : WP} {A : Nat → Nat} {σ σ' : SS} {H H' : Heap} (hW : WR kd w A σ H) {i : Nat} (hi : domA kd i) (hz : H.size ≤ H'.size) (ho : ∀ q, q ≠ A i → H'[q]? = H[q]?)
    (h0 : i = 0 → t_OB (A 0) w.cC NF w.iS H' (valK kd A σ')) (h0' : i ≠ 0 → ∀ k, k < NF → kd k ≤ 1 → σ'.1 k = σ.1 k)
    (hR : ∀ k, k < NF → kd k = 2 → (i = 2 * k + 1 ∨ i = 2 * k + 2) → WRow w A σ' H' k) (h3 : ∀ k, k < NF → kd k = 3 → i = 2 * k + 1 → WArr w.cB A σ' H' k) (h4 : ∀ k, k < NF → kd k = 4 → i = 2 * k + 1 → WArr w.cI A σ' H' k) (h5 : ∀ k, k < NF → kd k = 5 → i ≠ 2 * k + 1)
    (hS : ∀ k, k < NF → i ≠ 2 * k + 1 → i ≠ 2 * k + 2 → σ'.2.1 k = σ.2.1 k ∧ σ'.2.2.1 k = σ.2.2.1 k) : WR kd w A σ' H' := by
  obtain ⟨m1, m2, m3, m4, m5, m6, m7, m8⟩ := hW
  have off : ∀ j, domA kd j → j ≠ i → H'[A j]? = H[A j]? := fun j hj hne => ho _ fun e => hne (m6 j i hj hi e)
  refine ⟨?_, fun k hk h2 => ?_, fun k hk h2 => ?_, fun k hk h2 => ?_, fun k hk h2 => ?_, m6, m7, fun q hq => Nat.lt_of_lt_of_le (m8 q hq) hz⟩
  · by_cases e : i = 0
    · exact h0 e
    · refine (m1.kept (off 0 (Or.inl rfl) (Ne.symm e))).to fun k hk => ?_
      unfold valK
      split
      · rw [h0' e k hk (by assumption)]
      · rfl
  · by_cases e : i = 2 * k + 1 ∨ i = 2 * k + 2
    · exact hR k hk h2 e
    · have e1 : i ≠ 2 * k + 1 := fun q => e (Or.inl q)
      have e2 : i ≠ 2 * k + 2 := fun q => e (Or.inr q)
      exact (m2 k hk h2).kept rfl rfl (off _ (Or.inr (Or.inl ⟨k, hk, by omega, rfl⟩)) (Ne.symm e1)) (off _ (Or.inr (Or.inr ⟨k, hk, h2, rfl⟩)) (Ne.symm e2)) (hS k hk e1 e2).1 (hS k hk e1 e2).2
  · by_cases e1 : i = 2 * k + 1
    · exact h3 k hk h2 e1
    · have e2 : i ≠ 2 * k + 2 := by
        intro e2
        rcases hi with h | ⟨k', _, _, h⟩ | ⟨k', _, hk', h⟩
        · omega
        · omega
        · have : k' = k := by omega
          rw [this] at hk'
          omega
      exact (m3 k hk h2).kept rfl (off _ (Or.inr (Or.inl ⟨k, hk, by omega, rfl⟩)) (Ne.symm e1)) (hS k hk e1 e2).1 (hS k hk e1 e2).2
  · by_cases e1 : i = 2 * k + 1
    · exact h4 k hk h2 e1
    · have e2 : i ≠ 2 * k + 2 := by
        intro e2
        rcases hi with h | ⟨k', _, _, h⟩ | ⟨k', _, hk', h⟩
        · omega
        · omega
        · have : k' = k := by omega
          rw [this] at hk'
          omega
      exact (m4 k hk h2).kept rfl (off _ (Or.inr (Or.inl ⟨k, hk, by omega, rfl⟩)) (Ne.symm e1)) (hS k hk e1 e2).1 (hS k hk e1 e2).2
  · exact (m5 k hk h2).kept (off _ (Or.inr (Or.inl ⟨k, hk, by omega, rfl⟩)) (Ne.symm (h5 k hk h2)))
/-- what a class's constants are -/
def CFok (jc : JC) (cf : CF) (ty : Nat → FieldType) : Prop :=
  (∀ n k, cf.2.1 n = some (0, k) → k < NF ∧ Cond.fieldLink jc.1 n (jc.2.1 k).1 (jc.2.1 k).2.1 (jc.2.1 k).2.2.1 ∈ lw_all) ∧ (∀ n z, cf.2.1 n = some (1, z) → n = jc.2.2.2.2.2.1) ∧ (∀ n z, cf.2.1 n = some (2, z) → n = jc.2.2.2.2.2.2) ∧
  (∀ k, k < NF → cf.1 k = 0 → ty k = .int ∧ (jc.2.1 k).2.2.2 = false) ∧ (∀ k, k < NF → cf.1 k = 1 → ty k = .boolean ∧ (jc.2.1 k).2.2.2 = false) ∧
  ((∀ w ∈ u_ws jc.1 jc.2.1 NF, w ∈ lw_all) ∧ (∀ a, a < NF → ∀ b, b < NF → a ≠ b → (jc.2.1 a).2.1 ≠ (jc.2.1 b).2.1) ∧ ∀ k, k < NF → parseFieldDescriptor (jc.2.1 k).2.2.1 = some (ty k)) ∧
  ((∀ w ∈ u_ws jc.2.2.1 jc.2.2.2.1 2, w ∈ lw_all) ∧ (∀ a, a < 2 → ∀ b, b < 2 → a ≠ b → (jc.2.2.2.1 a).2.1 ≠ (jc.2.2.2.1 b).2.1) ∧ (parseFieldDescriptor (jc.2.2.2.1 0).2.2.1 = some (.array .int) ∧ parseFieldDescriptor (jc.2.2.2.1 1).2.2.1 = some .int) ∧ (jc.2.2.2.1 0).2.2.2 = false ∧ (jc.2.2.2.1 1).2.2.2 = false ∧ ((jc.2.2.2.1 0).1 = jc.2.2.1 ∧ (jc.2.2.2.1 1).1 = jc.2.2.1)) ∧
  (∀ n v, cf.2.2.2.2 n = some v → Cond.constant jc.1 n v ∈ lw_all)
section GH
variable {p : Program} {l : Launch} {e : Env} {R : Room} {s : State} {m : MethodId} {args : Array Value} {below : List Frame} {meth : Method} {c : Code} {QQ : State → Prop} {cf : CF} {w : WP} {tb : TB} {inst : Bool} {nL : Nat} {hs : Nat → Option Nat} {A0 : Nat → Nat} {σ0 : SS} {pc : Nat} {L : LL} {st : List AV} {σ : SS} {cc : ByteArray} {D : List Nat} {len : Nat} {jc : JC} {ty : Nat → FieldType}
theorem gj_getM (hdc : dchk inst nL hs tb = true) {n : Nat} (ha : alook tb pc = some (.getfield n, 3, D)) (hx : p.tables.exec = Jvm.exec) (hb : c.code = cc) (hd : decode cc pc = .ok (.getfield n, 3)) (hts : ∀ w ∈ lw_all, w.before args s = true) (hown : s.vm.findClass jc.1 = some m.cls) (hK : KK jc w s) (hcf : CFok jc cf ty) {k z : Nat} (hn : cf.2.1 n = some (0, k))
    (h : if cf.1 k ≤ 1 then GJ p l e R s m args below meth c QQ cf.1 w tb inst nL A0 σ0 (pc + 3) L (.inl (σ.1 k) :: st) σ else GJ p l e R s m args below meth c QQ cf.1 w tb inst nL A0 σ0 (pc + 3) L (.inr (k + 2, 0) :: st) σ) : GJ p l e R s m args below meth c QQ cf.1 w tb inst nL A0 σ0 pc L (.inr (1, z) :: st) σ := by
  intro ls stc H locs A hl hst hW hA hF
  obtain ⟨x, r, e1, h1, h2⟩ := hst.cons
  have h1 : x = .ref (A 0) := h1
  subst h1; subst e1
  obtain ⟨hk, hlink⟩ := hcf.1 n k hn
  obtain ⟨cell, q1, q2, q3, q4⟩ := hW.1
  obtain ⟨hS, hfc, kC, hkC, hkind⟩ := hK.1
  obtain ⟨cf', kf, fi, f, hi, hsl⟩ := hS k hk
  refine W.getf hx hb hown (hts _ hlink) hi (u_facts hfc hkC (u_lays hts hcf.2.2.2.2.2.1.1 hk) hi).1 q1 (by rw [q3]; exact fun h => by cases h) (v := valK cf.1 A σ k) (by rw [hsl, q4 k hk]) rfl rfl hd ?_
  unfold valK
  split at h
  · next hc =>
    rw [if_pos hc]
    exact h ls _ H locs A (gj_l hdc ha (by simp [sucs]) rfl hl) ⟨rfl, h2⟩ hW hA hF
  · next hc =>
    rw [if_neg hc]
    exact h ls _ H locs A (gj_l hdc ha (by simp [sucs]) rfl hl) ⟨rfl, h2⟩ hW hA hF
theorem gj_getR (hdc : dchk inst nL hs tb = true) {n : Nat} (ha : alook tb pc = some (.getfield n, 3, D)) (hx : p.tables.exec = Jvm.exec) (hb : c.code = cc) (hd : decode cc pc = .ok (.getfield n, 3)) (hts : ∀ w ∈ lw_all, w.before args s = true) (hown : s.vm.findClass jc.1 = some m.cls) (hK : KK jc w s) (hcf : CFok jc cf ty) {k j : Nat} (hkN : k < NF) (hk2 : cf.1 k = 2) (hj : j < 2) (hlink : (Cond.fieldLinkNest jc.1 n jc.2.2.1 (jc.2.2.2.1 j).2.1 (jc.2.2.2.1 j).2.2.1 jc.2.2.2.2.1).before args s = true) {a : AV} (hav : ∀ (A : Nat → Nat), avR σ A a (rowV A σ k j))
    (h : GJ p l e R s m args below meth c QQ cf.1 w tb inst nL A0 σ0 (pc + 3) L (a :: st) σ) : GJ p l e R s m args below meth c QQ cf.1 w tb inst nL A0 σ0 pc L (.inr (k + 2, 0) :: st) σ := by
  intro ls stc H locs A hl hst hW hA hF
  obtain ⟨x, r, e1, h1, h2⟩ := hst.cons
  have h1 : x = .ref (A (2 * k + 1)) := h1
  subst h1; subst e1
  obtain ⟨cell, q1, q2, q3, q4⟩ := (hW.2.1 k hkN hk2).1
  obtain ⟨hS, hfc, kC, hkC, hkind⟩ := hK.2.1
  obtain ⟨cf', kf, fi, f, hi, hsl⟩ := hS j hj
  have hT := hcf.2.2.2.2.2.2.1
  have hown1 : (jc.2.2.2.1 j).1 = jc.2.2.1 := by
    rcases (show j = 0 ∨ j = 1 by omega) with rfl | rfl
    · exact hT.2.2.2.2.2.1
    · exact hT.2.2.2.2.2.2
  refine va_Wgetf hx hb hown hlink (by rw [← hown1]; exact hi) (u_facts hfc hkC (u_lays hts hT.1 hj) hi).1 q1 (by rw [q3]; exact fun h => by cases h) (v := rowV A σ k j) (by rw [hsl, q4 j hj]) rfl rfl hd ?_
  exact h ls _ H locs A (gj_l hdc ha (by simp [sucs]) rfl hl) ⟨hav A, h2⟩ hW hA hF
theorem gj_putM (hdc : dchk inst nL hs tb = true) {n : Nat} (ha : alook tb pc = some (.putfield n, 3, D)) (hx : p.tables.exec = Jvm.exec) (hb : c.code = cc) (hd : decode cc pc = .ok (.putfield n, 3)) (hts : ∀ w ∈ lw_all, w.before args s = true) (hown : s.vm.findClass jc.1 = some m.cls) (hK : KK jc w s) (hcf : CFok jc cf ty) {k z : Nat} {v : Int32} (hn : cf.2.1 n = some (0, k)) (hv : cf.1 k = 0 ∨ (cf.1 k = 1 ∧ (v = 0 ∨ v = 1)))
    (h : GJ p l e R s m args below meth c QQ cf.1 w tb inst nL A0 σ0 (pc + 3) L st (putF σ k v)) : GJ p l e R s m args below meth c QQ cf.1 w tb inst nL A0 σ0 pc L (.inl v :: .inr (1, z) :: st) σ := by
  intro ls stc H locs A hl hst hW hA hF
  obtain ⟨r1, e0, hst1⟩ := hst.int
  obtain ⟨x, r, e1, h1, h2⟩ := hst1.cons
  have h1 : x = .ref (A 0) := h1
  subst h1; subst e1; subst e0
  obtain ⟨hk, hlink⟩ := hcf.1 n k hn
  obtain ⟨cell, q1, q2, q3, q4⟩ := hW.1
  obtain ⟨hS, hfc, kC, hkC, hkind⟩ := hK.1
  obtain ⟨cf', kf, fi, f, hi, hsl⟩ := hS k hk
  obtain ⟨hin, hnm, hty⟩ := hcf.2.2.2.2.2.1
  have hap := kn_apart hts hin hty hnm hK.1
  have hfin : (jc.2.1 k).2.2.2 = false ∧ narrow (ty k) (.int v) = .int v ∧ fits (ty k) (.int v) = true := by
    rcases hv with h0 | ⟨h0, hv⟩
    · obtain ⟨t1, t2⟩ := hcf.2.2.2.1 k hk h0
      rw [t1]
      exact ⟨t2, rfl, rfl⟩
    · obtain ⟨t1, t2⟩ := hcf.2.2.2.2.1 k hk h0
      rw [t1]
      refine ⟨t2, ?_⟩
      rcases hv with rfl | rfl <;> exact ⟨by decide, by decide⟩
  have hlay := hts _ (hin _ (u_in_lay hk))
  unfold u_lay at hlay
  rw [if_neg (by rw [hfin.1]; decide)] at hlay
  have hst9 := (u_facts hfc hkC (u_lays hts hin hk) hi).1
  have h6 := u_store hfc hkC hkind hlay hi (hty k hk) hfin.2.1 hfin.2.2
  refine W.putK hx hb (f := f) ⟨hown, hts _ hlink, ⟨_, _, _, hi⟩, hst9⟩ (by rw [q2]; exact h6) q1 q3 (by rw [hsl]; exact k2_hasslot (q4 k hk)) rfl rfl hd fun H' e1 e2 e3 => ?_
  rw [hsl] at e1 ⊢
  have hk1 : cf.1 k ≤ 1 := by omega
  have hW' : WR cf.1 w A (putF σ k v) H' := by
    refine hW.upd (i := 0) (Or.inl rfl) (by rw [e2]; exact Nat.le_refl _) e3 (fun _ => ?_) (fun h => absurd rfl h) (fun k _ _ h => by omega) (fun k _ _ h => by omega) (fun k _ _ h => by omega) (fun k _ _ h => by omega) (fun k _ _ _ => ⟨rfl, rfl⟩)
    refine t_OB.to (V := updV (valK cf.1 A σ) k (.int v)) ⟨_, e1, q2, q3, t_set q4 hap hk _⟩ fun j _ => ?_
    unfold updV valK putF
    by_cases hj : j = k
    · subst hj
      dsimp only
      rw [if_pos rfl, if_pos hk1, va_up_self]
    · dsimp only
      rw [if_neg hj, va_up_ne _ _ hj]
  exact h ls _ H' _ A (gj_l hdc ha (by simp [sucs]) rfl hl) (stR.cap (σ := σ) (σ' := putF σ k v) rfl h2) hW' hA (hF.put e2 e3 (hW.2.2.2.2.2.2.1 0 (Or.inl rfl)))
theorem gj_putS (hdc : dchk inst nL hs tb = true) {n : Nat} (ha : alook tb pc = some (.putfield n, 3, D)) (hx : p.tables.exec = Jvm.exec) (hb : c.code = cc) (hd : decode cc pc = .ok (.putfield n, 3)) (hts : ∀ w ∈ lw_all, w.before args s = true) (hown : s.vm.findClass jc.1 = some m.cls) (hK : KK jc w s) (hcf : CFok jc cf ty) {k : Nat} (hkN : k < NF) (hk2 : cf.1 k = 2) (hlink : (Cond.fieldLinkNest jc.1 n jc.2.2.1 (jc.2.2.2.1 1).2.1 (jc.2.2.2.1 1).2.2.1 jc.2.2.2.2.1).before args s = true) {v : Int32} {σ' : SS} (hv : rowSize σ k v = some σ')
    (h : GJ p l e R s m args below meth c QQ cf.1 w tb inst nL A0 σ0 (pc + 3) L st σ') : GJ p l e R s m args below meth c QQ cf.1 w tb inst nL A0 σ0 pc L (.inl v :: .inr (k + 2, 0) :: st) σ := by
  intro ls stc H locs A hl hst hW hA hF
  obtain ⟨r1, e0, hst1⟩ := hst.int
  obtain ⟨x, r, e1, h1, h2⟩ := hst1.cons
  have h1 : x = .ref (A (2 * k + 1)) := h1
  subst h1; subst e1; subst e0
  have hro := hW.2.1 k hkN hk2
  obtain ⟨cell, q1, q2, q3, q4⟩ := hro.1
  obtain ⟨hS, hfc, kC, hkC, hkind⟩ := hK.2.1
  obtain ⟨cf', kf, fi, f, hi, hsl⟩ := hS 1 (by decide)
  obtain ⟨hin, hnm, hty, hf0, hf1, hn0, hn1⟩ := hcf.2.2.2.2.2.2.1
  have hap := kn_apart (ty := fun k => if k = 0 then .array .int else .int) hts hin (fun k hk => by rcases (show k = 0 ∨ k = 1 by omega) with rfl | rfl <;> simp [hty]) hnm hK.2.1
  have hlay := hts _ (hin _ (u_in_lay (k := 1) (by decide)))
  unfold u_lay at hlay
  rw [if_neg (by rw [hf1]; decide)] at hlay
  have hst9 := (u_facts hfc hkC (u_lays hts hin (k := 1) (by decide)) hi).1
  have h6 := u_store hfc hkC hkind hlay hi hty.2 (v := .int v) rfl rfl
  refine va_WputK hx hb (f := f) hown hlink (by rw [← hn1]; exact hi) hst9 (by rw [q2]; exact h6) q1 q3 (by rw [hsl]; exact k2_hasslot (q4 1 (by decide))) rfl rfl hd fun H' e1 e2 e3 => ?_
  rw [hsl] at e1 ⊢
  unfold rowSize at hv
  split at hv
  · cases hv
  next hvr =>
  have hv := (Option.some.inj hv).symm
  subst hv
  have hv0 : ¬ v < 0 := fun q => hvr (Or.inl q)
  have hvl : v.toNatClampNeg ≤ (σ.2.1 k).length := by
    rcases Nat.lt_or_ge (σ.2.1 k).length v.toNatClampNeg with q | q
    · exact absurd (Or.inr q) hvr
    · exact q
  obtain ⟨nv, hnv, env⟩ := nI_of hv0
  have hcl : v.toNatClampNeg = nv := by rw [env]; exact nI_clamp hnv
  have hlen : ((σ.2.1 k).take v.toNatClampNeg).length = nv := by rw [List.length_take, hcl]; omega
  have hne : A (2 * k + 2) ≠ A (2 * k + 1) := fun q => by
    have := hW.2.2.2.2.2.1 _ _ (Or.inr (Or.inr ⟨k, hkN, hk2, rfl⟩)) (Or.inr (Or.inl ⟨k, hkN, by omega, rfl⟩)) q
    omega
  have hW' : WR cf.1 w A (putR σ k ((σ.2.1 k).take v.toNatClampNeg)) H' := by
    refine hW.upd (i := 2 * k + 1) (Or.inr (Or.inl ⟨k, hkN, by omega, rfl⟩)) (by rw [e2]; exact Nat.le_refl _) e3 (fun h => by omega) (fun _ _ _ _ => rfl) (fun j hj hj2 hij => ?_) (fun j hj hj3 hij => ?_) (fun j hj hj3 hij => ?_) (fun j hj hj3 hij => ?_) (fun j hj hij hij2 => ?_)
    · have ejk : j = k := by omega
      subst ejk
      obtain ⟨⟨f2, g1, g2⟩, g3, g4⟩ := hro.2
      unfold WRow putR
      simp only [va_up_self]
      refine ⟨?_, ⟨f2, by rw [e3 _ hne]; exact g1, fun i x hx => g2 i x ?_⟩, by rw [hlen]; omega, g4⟩
      · refine t_OB.to (V := updV (rowV A σ j) 1 (.int v)) ⟨_, e1, q2, q3, t_set q4 hap (by decide) _⟩ fun i hi => ?_
        rcases (show i = 0 ∨ i = 1 by omega) with rfl | rfl
        · simp [updV, rowV]
        · simp [updV, rowV, va_up_self]
          rw [hcl, env, Nat.min_eq_left (by omega)]
      · rw [List.getElem?_take] at hx
        split at hx
        · exact hx
        · cases hx
    · have ejk : j = k := by omega
      subst ejk; omega
    · have ejk : j = k := by omega
      subst ejk; omega
    · have ejk : j = k := by omega
      subst ejk; omega
    · have ejk : j ≠ k := fun q => hij (by rw [q])
      unfold putR
      exact ⟨va_up_ne _ _ ejk, rfl⟩
  exact h ls _ H' _ A (gj_l hdc ha (by simp [sucs]) rfl hl) (stR.cap (σ := σ) (σ' := putR σ k ((σ.2.1 k).take v.toNatClampNeg)) rfl h2) hW' hA (hF.put e2 e3 (hW.2.2.2.2.2.2.1 (2 * k + 1) (Or.inr (Or.inl ⟨k, hkN, by omega, rfl⟩))))
theorem ix_in {l : List Int32} {j x : Int32} (h : ix l j = some x) : ¬ j < 0 ∧ j.toNatClampNeg < l.length ∧ l[j.toNatClampNeg]? = some x := by
  unfold ix at h
  split at h
  · cases h
  · next h0 => exact ⟨h0, (List.getElem?_eq_some_iff.mp h).1, h⟩
theorem gj_ald {i : Instr} (hdc : dchk inst nL hs tb = true) (ha : alook tb pc = some (i, len, D)) (hsu : sucs i len pc = [pc + len]) (hs0 : storesOf i = []) {j v : Int32} {a : AV} {l0 : List Int32} {N : Nat} {cA : ClassId} (hj : ix l0 j = some v)
    (row : ∀ (ls : Array Slot) (stc : List Value) (H : Heap) (locs : List Loc) (k n b : Nat) (f : Nat → Int32), H[b]? = some (arrV cA N (fun j => Value.int (f j))) → vp_in j N → W p l e R s m args below meth c H locs k n QQ (F0 m (pc + len) ls (.int (f j.toNatClampNeg) :: stc)) → W p l e R s m args below meth c H locs k n QQ (F0 m pc ls (.int j :: .ref b :: stc)))
    (hcell : ∀ (A : Nat → Nat) (H : Heap) (x : Value), WR cf.1 w A σ H → avR σ A a x → ∃ b, x = .ref b ∧ arrIn cA H b N l0 ∧ l0.length ≤ N)
    (h : GJ p l e R s m args below meth c QQ cf.1 w tb inst nL A0 σ0 (pc + len) L (.inl v :: st) σ) : GJ p l e R s m args below meth c QQ cf.1 w tb inst nL A0 σ0 pc L (.inl j :: a :: st) σ := by
  intro ls stc H locs A hl hst hW hA hF
  obtain ⟨r1, e0, hst1⟩ := hst.int
  obtain ⟨x, r, e1, h1, h2⟩ := hst1.cons
  obtain ⟨b, e2, ⟨f, hf, hfl⟩, hle⟩ := hcell A H x hW h1
  subst e2; subst e1; subst e0
  obtain ⟨i1, i2, i3⟩ := ix_in hj
  refine row ls r H locs _ _ b f hf (fun q => ?_) ?_
  · rcases q with q | q
    · exact i1 q
    · omega
  · rw [hfl _ _ i3]
    exact h ls _ H locs A (gj_l hdc ha (by rw [hsu]; simp) hs0 hl) ⟨rfl, h2⟩ hW hA hF
theorem gj_ast {i : Instr} (hdc : dchk inst nL hs tb = true) (ha : alook tb pc = some (i, len, D)) (hsu : sucs i len pc = [pc + len]) (hs0 : storesOf i = []) {j v : Int32} {a : AV} {N z k0 : Nat} {cA : ClassId} {σ' : SS} (hj : rowSet σ k0 j v = some σ') (hz : domA cf.1 z)
    (row : ∀ (ls : Array Slot) (stc : List Value) (H : Heap) (locs : List Loc) (k n b : Nat) (f : Nat → Int32), H[b]? = some (arrV cA N (fun j => Value.int (f j))) → vp_in j N → (∀ (H1 : Heap), H1[b]? = some (arrV cA N (fun q => Value.int (upd f j.toNatClampNeg v q))) → H1.size = H.size → (∀ q, q ≠ b → H1[q]? = H[q]?) → W p l e R s m args below meth c H1 (locs ++ [⟨b, j.toNatClampNeg⟩]) k n QQ (F0 m (pc + len) ls stc)) → W p l e R s m args below meth c H locs k n QQ (F0 m pc ls (.int v :: .int j :: .ref b :: stc)))
    (hcell : ∀ (A : Nat → Nat) (H : Heap) (x : Value), WR cf.1 w A σ H → avR σ A a x → x = .ref (A z) ∧ arrIn cA H (A z) N (σ.2.1 k0) ∧ (σ.2.1 k0).length ≤ N)
    (hback : ∀ (A : Nat → Nat) (H H1 : Heap), WR cf.1 w A σ H → H1.size = H.size → (∀ q, q ≠ A z → H1[q]? = H[q]?) → arrIn cA H1 (A z) N ((σ.2.1 k0).set j.toNatClampNeg v) → WR cf.1 w A (putR σ k0 ((σ.2.1 k0).set j.toNatClampNeg v)) H1)
    (h : GJ p l e R s m args below meth c QQ cf.1 w tb inst nL A0 σ0 (pc + len) L st σ') : GJ p l e R s m args below meth c QQ cf.1 w tb inst nL A0 σ0 pc L (.inl v :: .inl j :: a :: st) σ := by
  intro ls stc H locs A hl hst hW hA hF
  obtain ⟨r0, e0, hst0⟩ := hst.int
  obtain ⟨r1, e1, hst1⟩ := hst0.int
  obtain ⟨x, r, e2, h1, h2⟩ := hst1.cons
  obtain ⟨e3, ⟨f, hf, hfl⟩, hle⟩ := hcell A H x hW h1
  subst e3; subst e2; subst e1; subst e0
  unfold rowSet at hj
  split at hj
  · cases hj
  next hjr =>
  have hj := (Option.some.inj hj).symm
  subst hj
  refine row ls r H locs _ _ (A z) f hf (fun q => ?_) fun H1 g1 g2 g3 => ?_
  · rcases q with q | q
    · exact hjr (Or.inl q)
    · exact hjr (Or.inr (by omega))
  · have hW' := hback A H H1 hW g2 g3 ⟨_, g1, fun i x hi => ?_⟩
    · exact h ls _ H1 _ A (gj_l hdc ha (by rw [hsu]; simp) hs0 hl) (stR.cap (σ := σ) (σ' := putR σ k0 ((σ.2.1 k0).set j.toNatClampNeg v)) rfl h2) hW' hA (hF.put g2 g3 (hW.2.2.2.2.2.2.1 z hz))
    · rw [List.getElem?_set] at hi
      unfold upd
      split at hi
      · next e =>
        rw [if_pos e.symm]
        split at hi
        · exact Option.some.inj hi
        · cases hi
      · next e =>
        rw [if_neg (fun q => e q.symm)]
        exact hfl i x hi
theorem WR.row1 {A : Nat → Nat} {H H1 : Heap} {kd : Nat → Nat} (hW : WR kd w A σ H) {k : Nat} (hk : k < NF) (hk2 : kd k = 2) (hz : H1.size = H.size) (ho : ∀ q, q ≠ A (2 * k + 2) → H1[q]? = H[q]?) {l0 : List Int32} (hl : l0.length = (σ.2.1 k).length) (h1 : arrIn w.cI H1 (A (2 * k + 2)) (σ.2.2.1 k) l0) : WR kd w A (putR σ k l0) H1 := by
  have hro := hW.2.1 k hk hk2
  refine hW.upd (i := 2 * k + 2) (Or.inr (Or.inr ⟨k, hk, hk2, rfl⟩)) (by rw [hz]; exact Nat.le_refl _) ho (fun h => by omega) (fun _ _ _ _ => rfl) (fun j hj hj2 hij => ?_) (fun j hj hj3 hij => by omega) (fun j hj hj3 hij => by omega) (fun j hj hj3 hij => by omega) (fun j hj hij hij2 => ?_)
  · have ejk : j = k := by omega
    subst ejk
    have hne : A (2 * j + 1) ≠ A (2 * j + 2) := fun q => by
      have := hW.2.2.2.2.2.1 _ _ (Or.inr (Or.inl ⟨j, hj, by omega, rfl⟩)) (Or.inr (Or.inr ⟨j, hj, hj2, rfl⟩)) q
      omega
    unfold WRow putR
    simp only [va_up_self]
    refine ⟨(hro.1.kept (ho _ hne)).to fun i _ => ?_, h1, by rw [hl]; exact hro.2.2.1, hro.2.2.2⟩
    unfold rowV
    simp [va_up_self, hl]
  · have ejk : j ≠ k := fun q => hij2 (by rw [q])
    unfold putR
    exact ⟨va_up_ne _ _ ejk, rfl⟩
theorem WR.arr1 {A : Nat → Nat} {H H1 : Heap} {kd : Nat → Nat} (hW : WR kd w A σ H) {k : Nat} (hk : k < NF) (hk2 : kd k = 3 ∨ kd k = 4) (hz : H1.size = H.size) (ho : ∀ q, q ≠ A (2 * k + 1) → H1[q]? = H[q]?) {l0 : List Int32} (hl : l0.length = (σ.2.1 k).length) (h1 : arrIn (if kd k = 3 then w.cB else w.cI) H1 (A (2 * k + 1)) (σ.2.2.1 k) l0) : WR kd w A (putR σ k l0) H1 := by
  refine hW.upd (i := 2 * k + 1) (Or.inr (Or.inl ⟨k, hk, by omega, rfl⟩)) (by rw [hz]; exact Nat.le_refl _) ho (fun h => by omega) (fun _ _ _ _ => rfl) (fun j hj hj2 hij => ?_) (fun j hj hj3 hij => ?_) (fun j hj hj3 hij => ?_) (fun j hj hj3 hij => ?_) (fun j hj hij hij2 => ?_)
  · have ejk : j = k := by omega
    subst ejk; omega
  · have ejk : j = k := by omega
    subst ejk
    rw [if_pos hj3] at h1
    have := hW.2.2.1 j hj hj3
    unfold WArr putR
    simp only [va_up_self]
    exact ⟨h1, hl.trans this.2.1, this.2.2⟩
  · have ejk : j = k := by omega
    subst ejk
    rw [if_neg (by omega)] at h1
    have := hW.2.2.2.1 j hj hj3
    unfold WArr putR
    simp only [va_up_self]
    exact ⟨h1, hl.trans this.2.1, this.2.2⟩
  · have ejk : j = k := by omega
    subst ejk; omega
  · have ejk : j ≠ k := fun q => hij (by rw [q])
    unfold putR
    exact ⟨va_up_ne _ _ ejk, rfl⟩
end GH
