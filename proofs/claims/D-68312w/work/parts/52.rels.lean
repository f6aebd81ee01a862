/-! the store of trees against the store of ints: statements and methods -/
section RLS
variable {c : SC} {hd : HH} {nds nds' : List ND} {L : LL} {LV : AL} {σ σ' : SS} {A A' : AS}
theorem OKs.trans {r : Option ((Nat × Int32) × LL × SS)} {r' : Option ((Nat × V) × AL × AS)} (hp : nds <+: nds') (h : OKs c hd nds' r r') : OKs c hd nds r r' := by
  match r', h with
  | none, _ => exact trivial
  | some (f, LV', A'), h =>
    obtain ⟨f', L', σ', n2, e, h1, h2, h3, h4, h5⟩ := h
    exact ⟨f', L', σ', n2, e, h1, h2, h3, h4, hp.trans h5⟩
theorem OKs.bnd {α β : Type} {Rv : List ND → β → α → Prop} {r : Option (Option α × LL × SS)} {r' : Option (Option β × AS)} {f : α → LL → SS → Option ((Nat × Int32) × LL × SS)} {f' : β → AS → Option ((Nat × V) × AL × AS)}
    (hL : RL c nds LV L) (h : OK c hd Rv nds L r r') (hf : ∀ x v σ' A' nds', Rv nds' v x → RS c hd A' σ' nds' → nds <+: nds' → OKs c hd nds' (f x L σ') (f' v A')) : OKs c hd nds (sbnd r f) (zb r' LV f') := by
  match r', h with
  | none, _ => exact trivial
  | some (none, A'), h =>
    obtain ⟨σ', nds', e, h1, h2⟩ := h
    subst e
    exact ⟨(2, 0), L, σ', nds', rfl, rfl, rep_int.mpr rfl, hL.mono h2, h1, h2⟩
  | some (some v, A'), h =>
    obtain ⟨x, σ', nds', e, h0, h1, h2⟩ := h
    subst e
    exact OKs.trans h2 (hf x v σ' A' nds' h0 h1 h2)
theorem OKs.go (hL : RL c nds LV L) (hS : RS c hd A σ nds) : OKs c hd nds (some ((0, 0), L, σ)) (some ((0, .int 0), LV, A)) := ⟨(0, 0), L, σ, nds, rfl, rfl, rep_int.mpr rfl, hL, hS, List.prefix_refl _⟩
theorem OKs.fl {k : Nat} (hL : RL c nds LV L) (hS : RS c hd A σ nds) : OKs c hd nds (some ((k, 0), L, σ)) (some ((k, .int 0), LV, A)) := ⟨(k, 0), L, σ, nds, rfl, rfl, rep_int.mpr rfl, hL, hS, List.prefix_refl _⟩
theorem OKs.zgo {r : Option SS} {r' : Option AS} (hL : RL c nds LV L) (h : ∀ A', r' = some A' → ∃ σ', r = some σ' ∧ RS c hd A' σ' nds) : OKs c hd nds (sgo L r) (zgo LV r') := by
  cases r' with
  | none => exact trivial
  | some A' =>
    obtain ⟨σ', e, h1⟩ := h A' rfl
    subst e
    exact OKs.go hL h1
theorem sr_skip : SR c sSkip zSkip := fun _ _ _ _ _ _ hL hS => OKs.go hL hS
theorem sr_ret0 : SR c sRet0 zRet0 := fun _ _ _ _ _ _ hL hS => OKs.fl hL hS
theorem sr_brk : SR c sBrk zBrk := fun _ _ _ _ _ _ hL hS => OKs.fl hL hS
theorem sr_cnt : SR c sCnt zCnt := fun _ _ _ _ _ _ hL hS => OKs.fl hL hS
theorem sr_seq {a b : SX} {a' b' : ZX} (ha : SR c a a') (hb : SR c b b') : SR c (sSeq a b) (zSeq a' b') := by
  intro hd L σ LV A nds hL hS
  have h := ha hd L σ LV A nds hL hS
  unfold sSeq zSeq
  generalize a' LV A = q at h ⊢
  match q, h with
  | none, _ => exact trivial
  | some (f, LV1, A1), h =>
    obtain ⟨f', L1, σ1, n1, e, h1, h2, h3, h4, h5⟩ := h
    rw [e]
    dsimp only
    by_cases e0 : f.1 = 0
    · rw [if_pos e0, if_pos (h1.trans e0)]
      exact OKs.trans h5 (hb hd L1 σ1 LV1 A1 n1 h3 h4)
    · rw [if_neg e0, if_neg (fun q => e0 (h1 ▸ q))]
      exact ⟨f', L1, σ1, n1, rfl, h1, h2, h3, h4, h5⟩
theorem sr_if {q : CX} {q' : BX} {a b : SX} {a' b' : ZX} (hq : CR c q q') (ha : SR c a a') (hb : SR c b b') : SR c (sIf q a b) (zIf q' a' b') := by
  intro hd L σ LV A nds hL hS
  refine OKs.bnd hL (hq hd L σ LV A nds hL hS) fun x v σ1 A1 n1 hv h1 hp1 => ?_
  have hv : x = v := hv
  subst hv
  cases x with
  | true => exact ha hd L σ1 LV A1 n1 (hL.mono hp1) h1
  | false => exact hb hd L σ1 LV A1 n1 (hL.mono hp1) h1
theorem sr_set {k : Nat} {a : EX} {a' : AX} (ha : ER c a a') : SR c (sSet k a) (zSet k a') := by
  intro hd L σ LV A nds hL hS
  exact OKs.bnd hL (ha hd L σ LV A nds hL hS) fun x v σ1 A1 n1 hv h1 hp1 => OKs.go ((hL.mono hp1).up hv) h1
theorem sr_inc {k : Nat} {d : Int32} : SR c (sInc k d) (zInc k d) := by
  intro hd L σ LV A nds hL hS
  unfold zInc
  split
  · next v hv => exact OKs.go (hL.up (vbin_rep (hL k) (rep_int.mpr rfl) hv)) hS
  · exact trivial
theorem vput_rep {k : Nat} {v : V} {x : Int32} {A' : AS} (hS : RS c hd A σ nds) (hv : rep c.cv nds v x) (hk : k ≠ c.frk) (h : vput A k v = some A') : RS c hd A' (putF σ k x) nds := by
  unfold vput at h
  split at h
  · have e := Option.some.inj h
    subst e
    rw [rep_int] at hv
    subst hv
    exact hS.putF (Or.inl hk)
  · cases h
theorem vputU_rep {k : Nat} {v : V} {x : Int32} {A' : AS} (hS : RS c hd A σ nds) (hv : rep c.cv nds v x) (h : vputU A k v = some A') : RS c hd A' (putF σ k x) nds := by
  unfold vputU at h
  split at h
  · split at h
    · next hu =>
      have e := Option.some.inj h
      subst e
      rw [rep_int] at hv
      subst hv
      exact hS.putF (Or.inr hu)
    · cases h
  · cases h
theorem sr_putF {k : Nat} {a : EX} {a' : AX} (hk : k ≠ c.frk) (ha : ER c a a') : SR c (sPutF k a) (zPutF k a') := by
  intro hd L σ LV A nds hL hS
  refine OKs.bnd hL (ha hd L σ LV A nds hL hS) fun x v σ1 A1 n1 hv h1 hp1 => ?_
  exact OKs.zgo (r := some (putF σ1 k x)) (hL.mono hp1) fun A2 h2 => ⟨_, rfl, vput_rep h1 hv hk h2⟩
theorem sr_putZ {k : Nat} {a : EX} {a' : AX} (hk : k ≠ c.frk) (ha : ER c a a') : SR c (sPutZ k a) (zPutZ k a') := by
  intro hd L σ LV A nds hL hS
  refine OKs.bnd hL (ha hd L σ LV A nds hL hS) fun x v σ1 A1 n1 hv h1 hp1 => ?_
  cases hz : vputZ A1 k v with
  | none => exact trivial
  | some A2 =>
    unfold vputZ at hz
    split at hz
    · have hv : rep c.cv n1 (.int _) x := hv
      rw [rep_int] at hv
      subst hv
      split at hz
      · next hx =>
        have e := Option.some.inj hz
        subst e
        rw [if_pos hx]
        exact OKs.go (hL.mono hp1) (h1.putF (Or.inl hk))
      · cases hz
    · cases hz
theorem sr_opF {op : Int32 → Int32 → Int32} {k : Nat} {a : EX} {a' : AX} (hk : k ≠ c.frk) (ha : ER c a a') : SR c (sOpF op k a) (zOpF op k a') := by
  intro hd L σ LV A nds hL hS
  refine OKs.bnd hL (ha hd L σ LV A nds hL hS) fun x v σ1 A1 n1 hv h1 hp1 => ?_
  refine OKs.zgo (r := some (putF σ1 k (op (σ.1 k) x))) (hL.mono hp1) fun A2 h2 => ⟨_, rfl, ?_⟩
  obtain ⟨w, q1, q2⟩ := Option.bind_eq_some_iff.mp h2
  exact vput_rep h1 (vbin_rep (rep_int.mpr (hS.1 k)) hv q1) hk q2
theorem sr_opU {op : Int32 → Int32 → Int32} {k : Nat} {a : EX} {a' : AX} (ha : ER c a a') : SR c (sOpF op k a) (zOpU op k a') := by
  intro hd L σ LV A nds hL hS
  refine OKs.bnd hL (ha hd L σ LV A nds hL hS) fun x v σ1 A1 n1 hv h1 hp1 => ?_
  refine OKs.zgo (r := some (putF σ1 k (op (σ.1 k) x))) (hL.mono hp1) fun A2 h2 => ⟨_, rfl, ?_⟩
  obtain ⟨w, q1, q2⟩ := Option.bind_eq_some_iff.mp h2
  exact vputU_rep h1 (vbin_rep (rep_int.mpr (hS.1 k)) hv q1) q2
theorem vsize_rep {k : Nat} {v : V} {x : Int32} {A' : AS} (hS : RS c hd A σ nds) (hv : rep c.cv nds v x) (hk : c.isn k = 0) (h : vsize A k v = some A') : ∃ σ', rowSize σ k x = some σ' ∧ RS c hd A' σ' nds := by
  unfold vsize at h
  split at h
  · split at h
    · cases h
    · next hn =>
      have e := Option.some.inj h
      subst e
      rw [rep_int] at hv
      subst hv
      have hl := hS.2.1 k hk
      have hlen := RR.len hl
      obtain ⟨q1, l', e, q2⟩ := hl
      refine ⟨putR σ k ((σ.2.1 k).take x.toNatClampNeg), ?_, hS.putR hk ⟨q1, l'.take (x.toNatClampNeg - A.of k), ?_, q2.take _⟩ (by rw [List.length_take]; exact Nat.min_le_right _ _)⟩
      · unfold rowSize
        rw [if_neg (fun q => q.elim (fun q => hn (Or.inl q)) (fun q => by omega))]
      · rw [e, List.take_append, List.take_of_length_le (by omega), q1]
  · cases h
theorem sr_putS {k : Nat} {a : EX} {a' : AX} (hk : c.isn k = 0) (ha : ER c a a') : SR c (sPutS k a) (zPutS k a') := by
  intro hd L σ LV A nds hL hS
  exact OKs.bnd hL (ha hd L σ LV A nds hL hS) fun x v σ1 A1 n1 hv h1 hp1 => OKs.zgo (hL.mono hp1) fun A2 h2 => vsize_rep h1 hv hk h2
theorem sr_opS {op : Int32 → Int32 → Int32} {k : Nat} {a : EX} {a' : AX} (hk : c.isn k = 0) (ha : ER c a a') : SR c (sOpS op k a) (zOpS op k a') := by
  intro hd L σ LV A nds hL hS
  refine OKs.bnd hL (ha hd L σ LV A nds hL hS) fun x v σ1 A1 n1 hv h1 hp1 => OKs.zgo (hL.mono hp1) fun A2 h2 => ?_
  obtain ⟨w, q1, q2⟩ := Option.bind_eq_some_iff.mp h2
  exact vsize_rep h1 (vbin_rep (rep_int.mpr (by rw [RR.len (hS.2.1 k hk)])) hv q1) hk q2
theorem vset_rep {k : Nat} {j v : V} {i x : Int32} {A' : AS} (hS : RS c hd A σ nds) (hj : rep c.cv nds j i) (hv : rep c.cv nds v x) (hk : c.isn k = 0) (h : vset A k j v = some A') : ∃ σ', rowSet σ k i x = some σ' ∧ σ'.2.2.1 = σ.2.2.1 ∧ RS c hd A' σ' nds := by
  unfold vset at h
  split at h
  · split at h
    · cases h
    · next hn =>
      have e := Option.some.inj h
      subst e
      rw [rep_int] at hj
      subst hj
      have hl := hS.2.1 k hk
      have hlen := RR.len hl
      obtain ⟨q1, l', e, q2⟩ := hl
      refine ⟨putR σ k ((σ.2.1 k).set i.toNatClampNeg x), ?_, rfl, hS.putR hk ⟨q1, l'.set (i.toNatClampNeg - A.of k) x, ?_, q2.set _ hv⟩ (by rw [List.length_set]; exact Nat.le_refl _)⟩
      · unfold rowSet
        rw [if_neg (fun q => q.elim (fun q => hn (Or.inl q)) (fun q => by omega))]
      · rw [e, List.set_append, if_neg (by omega), q1]
  · cases h
theorem sr_At {k : Nat} {i a : EX} {i' a' : AX} (hk : c.isn k = 0) (hi : EP c i i') (ha : EP c a a') : SR c (sAt k i a) (zAt k i' a') := by
  intro hd L σ LV A nds hL hS
  have h1 := hi hd L σ LV A nds hL hS
  have h2 := ha hd L σ LV A nds hL hS
  unfold sAt zAt
  generalize i' LV A = q1 at h1 ⊢
  match q1, h1 with
  | none, _ => exact trivial
  | some (some j, A1), h1 =>
    obtain ⟨e, y, g1, g2⟩ := h1
    subst e
    rw [g1]
    show OKs c hd nds (sbnd (a L σ) _) (zb (a' LV A1) LV _)
    generalize a' LV A1 = q2 at h2 ⊢
    match q2, h2 with
    | none, _ => exact trivial
    | some (some v, A2), h2 =>
      obtain ⟨e, x, f1, f2⟩ := h2
      subst e
      rw [f1]
      show OKs c hd nds (if σ.2.2.1 k = σ.2.2.1 k then sgo L (rowSet σ k y x) else none) (zgo LV (vset A2 k j v))
      rw [if_pos rfl]
      exact OKs.zgo hL fun A3 h3 => by
        obtain ⟨σ', p1, _, p2⟩ := vset_rep hS g2 f2 hk h3
        exact ⟨σ', p1, p2⟩
theorem sr_Ar {k : Nat} {i a : EX} {i' a' : AX} (hk : c.isn k = 0) (hi : ER c i i') (ha : ER c a a') : SR c (sArr k i a) (zAt k i' a') := by
  intro hd L σ LV A nds hL hS
  refine OKs.bnd hL (hi hd L σ LV A nds hL hS) fun y j σ1 A1 n1 hj h1 hp1 => OKs.bnd (hL.mono hp1) (ha hd L σ1 LV A1 n1 (hL.mono hp1) h1) fun x v σ2 A2 n2 hv h2 hp2 => ?_
  exact OKs.zgo ((hL.mono hp1).mono hp2) fun A3 h3 => by
    obtain ⟨σ', p1, _, p2⟩ := vset_rep h2 (rep_mono hp2 _ _ hj) hv hk h3
    exact ⟨σ', p1, p2⟩
theorem sr_Ab {k : Nat} {i a : EX} {i' a' : AX} (hk : c.isn k = 0) (hi : ER c i i') (ha : ER c a a') : SR c (sArrB k i a) (zAtB k i' a') := by
  intro hd L σ LV A nds hL hS
  refine OKs.bnd hL (hi hd L σ LV A nds hL hS) fun y j σ1 A1 n1 hj h1 hp1 => OKs.bnd (hL.mono hp1) (ha hd L σ1 LV A1 n1 (hL.mono hp1) h1) fun x v σ2 A2 n2 hv h2 hp2 => ?_
  show OKs c hd n2 (if x.toInt8.toInt32 = x then sgo L (rowSet σ2 k y x) else none) (if isB8 v = true then zgo LV (vset A2 k j v) else none)
  by_cases hb : isB8 v = true
  · rw [if_pos hb]
    have hv : rep c.cv n2 v x := hv
    have hx : x.toInt8.toInt32 = x := by
      unfold isB8 at hb
      split at hb
      · rw [rep_int] at hv
        subst hv
        simpa using hb
      · cases hb
    rw [if_pos hx]
    exact OKs.zgo ((hL.mono hp1).mono hp2) fun A3 h3 => by
      obtain ⟨σ', p1, _, p2⟩ := vset_rep h2 (rep_mono hp2 _ _ hj) hv hk h3
      exact ⟨σ', p1, p2⟩
  · rw [if_neg hb]
    exact trivial
theorem sum_up (l : List Nat) (f g : Nat → Nat) (k : Nat) (h : ∀ j, j ≠ k → f j = g j) : k ∉ l → (l.map f).sum = (l.map g).sum := by
  intro hk
  have : l.map f = l.map g := List.map_congr_left fun j hj => h j fun e => hk (e ▸ hj)
  rw [this]
theorem sum_up1 (l : List Nat) (f g : Nat → Nat) (k : Nat) (h : ∀ j, j ≠ k → f j = g j) (hn : l.Nodup) : k ∈ l → (l.map f).sum + g k = (l.map g).sum + f k := by
  induction l with
  | nil => intro hk; cases hk
  | cons a t ih =>
    intro hk
    rw [List.nodup_cons] at hn
    simp only [List.map_cons, List.sum_cons]
    rcases List.mem_cons.mp hk with e | e
    · subst e
      rw [sum_up t f g k h hn.1]
      omega
    · have := ih hn.2 e
      have hak : a ≠ k := fun q => hn.1 (q ▸ e)
      rw [h a hak]
      omega
/-- a row grows -/
theorem RM.add {e0 : Nat} (hR : RM c e0 σ) (hok : SCok c) {k : Nat} (hk : k ∈ c.rws) {x : Int32} (hl : (σ.2.1 k).length < c.LM k) : ∃ σ', rowAdd σ k x = some σ' ∧ σ'.1 = σ.1 ∧ σ'.2.1 = va_up σ.2.1 k (σ.2.1 k ++ [x]) ∧ RM c e0 σ' := by
  obtain ⟨h1, h2, h3⟩ := hR
  obtain ⟨g1, g2, g3⟩ := h1 k hk
  unfold rowAdd
  by_cases hc : (σ.2.1 k).length < σ.2.2.1 k
  · rw [if_pos hc]
    refine ⟨_, rfl, rfl, rfl, fun j hj => ?_, h2, h3⟩
    obtain ⟨q1, q2⟩ := h1 j hj
    refine ⟨?_, q2⟩
    show (va_up σ.2.1 k (σ.2.1 k ++ [x]) j).length ≤ σ.2.2.1 j
    by_cases e : j = k
    · subst e; rw [va_up_self]; simp; omega
    · rw [va_up_ne _ _ e]; exact q1
  · have hlen : (σ.2.1 k).length = σ.2.2.1 k := by omega
    have hs := sum_up1 c.rws (fun j => 2 * c.LM j - va_up σ.2.2.1 k (2 * (σ.2.1 k).length) j) (fun j => 2 * c.LM j - σ.2.2.1 j) k (fun j hj => by rw [va_up_ne _ _ hj]) hok.1 hk
    simp only [va_up_self] at hs
    have hs' : sumC c (va_up σ.2.2.1 k (2 * (σ.2.1 k).length)) + (2 * c.LM k - σ.2.2.1 k) = sumC c σ.2.2.1 + (2 * c.LM k - 2 * (σ.2.1 k).length) := hs
    rw [if_neg hc, if_pos (by omega)]
    refine ⟨_, rfl, rfl, rfl, fun j hj => ?_, ?_, ?_⟩
    · obtain ⟨q1, q2, q3⟩ := h1 j hj
      show (va_up σ.2.1 k (σ.2.1 k ++ [x]) j).length ≤ va_up σ.2.2.1 k (2 * (σ.2.1 k).length) j ∧ 64 ≤ va_up σ.2.2.1 k (2 * (σ.2.1 k).length) j ∧ va_up σ.2.2.1 k (2 * (σ.2.1 k).length) j ≤ 2 * c.LM j
      by_cases e : j = k
      · subst e; rw [va_up_self, va_up_self]; simp; omega
      · rw [va_up_ne _ _ e, va_up_ne _ _ e]; exact ⟨q1, q2, q3⟩
    · show 64 * (σ.2.2.2.1 + 1 + 4 * e0) + sumC c (va_up σ.2.2.1 k (2 * (σ.2.1 k).length)) ≤ _
      omega
    · show (σ.2.2.2.2 + 2 * (σ.2.1 k).length) + 64 * e0 + 2 * sumC c (va_up σ.2.2.1 k (2 * (σ.2.1 k).length)) ≤ _
      omega
theorem RS.add (hS : RS c hd A σ nds) (hok : SCok c) {k : Nat} (hk : c.isn k = 0) (hk2 : k ∈ c.rws) {v : V} {x : Int32} (hv : rep c.cv nds v x) (hl : A.of k + (A.R k).length < ALM) : ∃ σ', rowAdd σ k x = some σ' ∧ RS c hd (apR A k (A.R k ++ [v])) σ' nds := by
  obtain ⟨h1, h2, h3, h4, h5, h6, h7⟩ := hS
  have hl2 := h2 k hk
  have := hok.2 k hk2 hk
  obtain ⟨σ', e, g1, g2, g3⟩ := h7.add hok hk2 (x := x) (by rw [RR.len hl2]; omega)
  refine ⟨σ', e, fun j => by rw [g1]; exact h1 j, fun j hj => ?_, fun j hj => ?_, h4, h5, h6, g3⟩
  · rw [g2]
    show RR c (hd j) nds (A.of j) (va_up A.2.1 k _ j) _
    by_cases e : j = k
    · subst e
      rw [va_up_self, va_up_self]
      obtain ⟨q1, l', e, q2⟩ := hl2
      exact ⟨q1, l' ++ [x], by rw [e, List.append_assoc], q2.app ⟨hv, trivial⟩⟩
    · rw [va_up_ne _ _ e, va_up_ne _ _ e]; exact h2 j hj
  · rw [g2, va_up_ne _ _ (fun e => by subst e; rw [hk] at hj; cases hj)]
    exact h3 j hj
theorem sr_add (hok : SCok c) {k : Nat} {a : EX} {a' : AX} (hk : c.isn k = 0) (hk2 : k ∈ c.rws) (ha : ER c a a') : SR c (sAdd k a) (zAdd k a') := by
  intro hd L σ LV A nds hL hS
  refine OKs.bnd hL (ha hd L σ LV A nds hL hS) fun x v σ1 A1 n1 hv h1 hp1 => OKs.zgo (hL.mono hp1) fun A2 h2 => ?_
  unfold vadd at h2
  split at h2
  · next hl =>
    have e := Option.some.inj h2
    subst e
    exact h1.add hok hk hk2 hv hl
  · cases h2
theorem sr_swap {k : Nat} {i j : EX} {i' j' : AX} (hk : c.isn k = 0) (hi : ER c i i') (hj : ER c j j') : SR c (sSwap k i j) (zSwap k i' j') := by
  intro hd L σ LV A nds hL hS
  refine OKs.bnd hL (hi hd L σ LV A nds hL hS) fun y i0 σ1 A1 n1 hi0 h1 hp1 => OKs.bnd (hL.mono hp1) (hj hd L σ1 LV A1 n1 (hL.mono hp1) h1) fun z j0 σ2 A2 n2 hj0 h2 hp2 => ?_
  refine OKs.zgo ((hL.mono hp1).mono hp2) fun A3 h3 => ?_
  have hi1 := rep_mono hp2 _ _ hi0
  unfold vswap at h3
  obtain ⟨x, q1, h3⟩ := Option.bind_eq_some_iff.mp h3
  obtain ⟨w, q2, h3⟩ := Option.bind_eq_some_iff.mp h3
  obtain ⟨A4, q3, q4⟩ := Option.bind_eq_some_iff.mp h3
  obtain ⟨x', p1, p2⟩ := aix_rep (h2.2.1 k hk) hi1 q1
  obtain ⟨w', p3, p4⟩ := aix_rep (h2.2.1 k hk) hj0 q2
  obtain ⟨σ4, p5, _, p6⟩ := vset_rep h2 hi1 p4 hk q3
  obtain ⟨σ5, p7, _, p8⟩ := vset_rep p6 hj0 p2 hk q4
  refine ⟨σ5, ?_, p8⟩
  unfold rowSwap
  rw [p1, Option.bind_some, p3, Option.bind_some, p5, Option.bind_some, p7]
theorem sr_ex {a : EX} {a' : AX} (ha : ER c a a') : SR c (sEx a) (zEx a') := by
  intro hd L σ LV A nds hL hS
  exact OKs.bnd hL (ha hd L σ LV A nds hL hS) fun x v σ1 A1 n1 hv h1 hp1 => OKs.go (hL.mono hp1) h1
theorem sr_ret {a : EX} {a' : AX} (ha : ER c a a') : SR c (sRet a) (zRet a') := by
  intro hd L σ LV A nds hL hS
  exact OKs.bnd hL (ha hd L σ LV A nds hL hS) fun x v σ1 A1 n1 hv h1 hp1 => ⟨(1, x), L, σ1, n1, rfl, rfl, hv, hL.mono hp1, h1, List.prefix_refl _⟩
theorem sr_wh {q : CX} {q' : BX} {b st : SX} {b' st' : ZX} (hq : CR c q q') (hb : SR c b b') (hst : SR c st st') : ∀ n, SR c (sWh n q b st) (zWh n q' b' st') := by
  intro n
  induction n with
  | zero => intro hd L σ LV A nds hL hS; exact trivial
  | succ n ih =>
    intro hd L σ LV A nds hL hS
    refine OKs.bnd hL (hq hd L σ LV A nds hL hS) fun x v σ1 A1 n1 hv h1 hp1 => ?_
    have hv : x = v := hv
    subst hv
    cases x with
    | false => exact OKs.go (hL.mono hp1) h1
    | true =>
      have h := hb hd L σ1 LV A1 n1 (hL.mono hp1) h1
      simp only [if_true]
      generalize b' LV A1 = r at h ⊢
      match r, h with
      | none, _ => exact trivial
      | some (f, LV2, A2), h =>
        obtain ⟨f', L2, σ2, n2, e, g1, g2, g3, g4, g5⟩ := h
        rw [e]
        dsimp only
        rw [g1]
        by_cases e0 : f.1 = 0 ∨ f.1 = 4
        · rw [if_pos e0, if_pos e0]
          have h := hst hd L2 σ2 LV2 A2 n2 g3 g4
          generalize st' LV2 A2 = r at h ⊢
          match r, h with
          | none, _ => exact trivial
          | some (g, LV3, A3), h =>
            obtain ⟨g', L3, σ3, n3, e3, k1, k2, k3, k4, k5⟩ := h
            rw [e3]
            dsimp only
            rw [k1]
            by_cases e4 : g.1 = 0
            · rw [if_pos e4, if_pos e4]
              exact OKs.trans (g5.trans k5) (ih hd L3 σ3 LV3 A3 n3 k3 k4)
            · rw [if_neg e4, if_neg e4]
              exact ⟨g', L3, σ3, n3, rfl, k1, k2, k3, k4, g5.trans k5⟩
        · rw [if_neg e0, if_neg e0]
          by_cases e3 : f.1 = 3
          · rw [if_pos e3, if_pos e3]
            exact OKs.trans g5 (OKs.go g3 g4)
          · rw [if_neg e3, if_neg e3]
            exact ⟨f', L2, σ2, n2, rfl, g1, g2, g3, g4, g5⟩
theorem sr_do {q : CX} {q' : BX} {b : SX} {b' : ZX} (hb : SR c b b') (hq : CR c q q') : ∀ n, SR c (sDo n b q) (zDo n b' q') := by
  intro n
  induction n with
  | zero => intro hd L σ LV A nds hL hS; exact trivial
  | succ n ih =>
    intro hd L σ LV A nds hL hS
    have h := hb hd L σ LV A nds hL hS
    unfold sDo zDo
    generalize b' LV A = r at h ⊢
    match r, h with
    | none, _ => exact trivial
    | some (f, LV2, A2), h =>
      obtain ⟨f', L2, σ2, n2, e, g1, g2, g3, g4, g5⟩ := h
      rw [e]
      dsimp only
      rw [g1]
      by_cases e0 : f.1 = 0 ∨ f.1 = 4
      · rw [if_pos e0, if_pos e0]
        refine OKs.trans g5 (OKs.bnd g3 (hq hd L2 σ2 LV2 A2 n2 g3 g4) fun x v σ3 A3 n3 hv h3 hp3 => ?_)
        have hv : x = v := hv
        subst hv
        cases x with
        | false => exact OKs.go (g3.mono hp3) h3
        | true => exact ih hd L2 σ3 LV2 A3 n3 (g3.mono hp3) h3
      · rw [if_neg e0, if_neg e0]
        by_cases e3 : f.1 = 3
        · rw [if_pos e3, if_pos e3]
          exact OKs.trans g5 (OKs.go g3 g4)
        · rw [if_neg e3, if_neg e3]
          exact ⟨f', L2, σ2, n2, rfl, g1, g2, g3, g4, g5⟩
theorem vI_rep {cv : Int32 → Int32} {v : V} {x i : Int32} (hv : rep cv nds v x) (h : vI v = some i) : x = i := by
  unfold vI at h
  split at h
  · have e := Option.some.inj h
    subst e
    exact rep_int.mp hv
  · cases h
theorem sr_sw {a : EX} {a' : AX} {sel : Int32 → SX} {sel' : Int32 → ZX} (ha : ER c a a') (hs : ∀ i, SR c (sel i) (sel' i)) : SR c (sSw a sel) (zSw a' sel') := by
  intro hd L σ LV A nds hL hS
  refine OKs.bnd hL (ha hd L σ LV A nds hL hS) fun x v σ1 A1 n1 hv h1 hp1 => ?_
  cases hi : vI v with
  | none => exact trivial
  | some i =>
    have hv : x = i := vI_rep hv hi
    subst hv
    have h := hs x hd L σ1 LV A1 n1 (hL.mono hp1) h1
    show OKs c hd n1 _ (zbk (sel' x LV A1))
    generalize sel' x LV A1 = r at h ⊢
    match r, h with
    | none, _ => exact trivial
    | some (f, LV2, A2), h =>
      obtain ⟨f', L2, σ2, n2, e, g1, g2, g3, g4, g5⟩ := h
      rw [e]
      unfold zbk
      dsimp only
      rw [g1]
      by_cases e3 : f.1 = 3
      · rw [if_pos e3, if_pos e3]
        exact OKs.trans g5 (OKs.go g3 g4)
      · rw [if_neg e3, if_neg e3]
        exact ⟨f', L2, σ2, n2, rfl, g1, g2, g3, g4, g5⟩
theorem sr_try {b h : SX} {b' h' : ZX} (hb : SR c b b') (hh : SR c h h') : SR c (sTry b h) (zTry b' h') := by
  intro hd L σ LV A nds hL hS
  have q := hb hd L σ LV A nds hL hS
  unfold sTry zTry
  generalize b' LV A = r at q ⊢
  match r, q with
  | none, _ => exact trivial
  | some (f, LV2, A2), q =>
    obtain ⟨f', L2, σ2, n2, e, g1, g2, g3, g4, g5⟩ := q
    rw [e]
    dsimp only
    rw [g1]
    by_cases e2 : f.1 = 2
    · rw [if_pos e2, if_pos e2]
      exact OKs.trans g5 (hh hd L2 σ2 LV2 A2 n2 g3 g4)
    · rw [if_neg e2, if_neg e2]
      exact ⟨f', L2, σ2, n2, rfl, g1, g2, g3, g4, g5⟩
theorem F2.getD {cv : Int32 → Int32} : ∀ {vs : List V} {xs : List Int32} (k : Nat), F2 (rep cv nds) vs xs → rep cv nds (vs.getD k (.int 0)) (xs.getD k 0) := by
  intro vs
  induction vs with
  | nil => intro xs k h; cases xs with | nil => exact rep_int.mpr rfl | cons b t => exact h.elim
  | cons v vs ih =>
    intro xs k h
    cases xs with
    | nil => exact h.elim
    | cons x xs => cases k with
      | zero => exact h.1
      | succ k => exact ih k h.2
theorem mth_rel {inst rt isb : Bool} {np : Nat} {s : SX} {z : ZX} (h : SR c s z) {vs : List V} {xs : List Int32} (hv : F2 (rep c.cv nds) vs xs) (hS : RS c hd A σ nds) : OKm c hd nds (mth inst rt isb np s xs σ) (amth inst rt isb np z vs A) := by
  have hL : RL c nds (A0of inst vs) (L0of inst xs) := by
    intro k
    unfold A0of L0of
    cases inst with
    | true => exact hv.getD _
    | false => exact hv.getD _
  have h := h hd _ σ _ A nds hL hS
  unfold mth amth
  by_cases hn : vs.length = np
  · rw [if_pos hn, if_pos (hv.len ▸ hn)]
    generalize z (A0of inst vs) A = r at h ⊢
    match r, h with
    | none, _ => exact trivial
    | some ((f, v), LV', A'), h =>
      obtain ⟨⟨f', x⟩, L', σ', n', e, g1, g2, g3, g4, g5⟩ := h
      rw [e]
      have g1 : f' = f := g1
      have g2 : rep c.cv n' v x := g2
      subst g1
      match f' with
      | 1 =>
        show OKm c hd nds (if (isb && !(decide (x = 0) || decide (x = 1))) = true then none else some (some (if rt then x else 0), σ')) (if (isb && !isBv v) = true then none else some (some (if rt then v else .int 0), A'))
        cases hb : isb && !isBv v with
        | true => exact trivial
        | false =>
          have hb2 : (isb && !(decide (x = 0) || decide (x = 1))) = false := by
            cases isb with
            | false => rfl
            | true =>
              simp only [Bool.true_and, Bool.not_eq_false'] at hb ⊢
              unfold isBv at hb
              split at hb
              · rw [rep_int] at g2; subst g2; exact hb
              · cases hb
          rw [hb2]
          refine ⟨_, σ', n', rfl, ?_, g4, g5⟩
          cases rt with
          | true => exact g2
          | false => exact rep_int.mpr rfl
      | 2 => exact ⟨σ', n', rfl, g4, g5⟩
      | 0 => exact trivial
      | n + 3 => exact trivial
  · rw [if_neg hn]
    exact trivial
/-- a field of a node -/
def fld5 (j : Nat) (q : ND) : Int32 := match j with
  | 0 => q.1
  | 1 => q.2.1
  | 2 => q.2.2.1
  | 3 => q.2.2.2.1
  | _ => q.2.2.2.2
theorem rep_nd {cv : Int32 → Int32} {j : Nat} {v w : V} {x : Int32} (hv : rep cv nds v x) (h : ndF cv j v = some w) : ∃ (n : Nat) (q : ND), n < 2 ^ 30 ∧ x = nI n ∧ nds[n]? = some q ∧ rep cv nds w (fld5 j q) := by
  unfold ndF at h
  split at h
  · next k a b d p =>
    rw [rep] at hv
    obtain ⟨n, a', b', c', h1, h2, h3, h4, h5, h6, h7, _⟩ := hv
    refine ⟨n, _, h1, h2, h3, ?_⟩
    match j, h with
    | 0, h => have e := Option.some.inj h; subst e; exact rep_int.mpr rfl
    | 1, h =>
      have h : (if k = 11 ∨ k = 32 then cvA cv a else some a) = some w := h
      by_cases hk : k = 11 ∨ k = 32
      · rw [if_pos hk] at h5 h
        obtain ⟨i, e1, e2⟩ := h5
        subst e1
        have e := Option.some.inj h; subst e; exact rep_int.mpr e2
      · rw [if_neg hk] at h5 h
        have e := Option.some.inj h; subst e; exact h5
    | 2, h => have e := Option.some.inj h; subst e; exact h6
    | 3, h => have e := Option.some.inj h; subst e; exact h7
    | n + 4, h => have e := Option.some.inj h; subst e; exact rep_int.mpr rfl
  · cases h
end RLS
