/-! the store of trees against the store of ints: expressions -/
/-- kinds of rows (0 of values, 1 of nodes), their contents by the nodes, names of fresh variables, the field that counts them, rows that grow, how long they may be -/
abbrev SC : Type := (Nat → Nat) × (Nat → List ND → List Int32) × (Int32 → Int32) × Nat × List Nat × (Nat → Nat)
abbrev SC.isn (c : SC) : Nat → Nat := c.1
abbrev SC.nrow (c : SC) : Nat → List ND → List Int32 := c.2.1
abbrev SC.cv (c : SC) : Int32 → Int32 := c.2.2.1
abbrev SC.frk (c : SC) : Nat := c.2.2.2.1
abbrev SC.rws (c : SC) : List Nat := c.2.2.2.2.1
abbrev SC.LM (c : SC) : Nat → Nat := c.2.2.2.2.2
def sumC (c : SC) (cap : Nat → Nat) : Nat := (c.rws.map fun k => 2 * c.LM k - cap k).sum
def RM (c : SC) (e : Nat) (σ : SS) : Prop := (∀ k ∈ c.rws, (σ.2.1 k).length ≤ σ.2.2.1 k ∧ 64 ≤ σ.2.2.1 k ∧ σ.2.2.1 k ≤ 2 * c.LM k) ∧ 64 * (σ.2.2.2.1 + 4 * e) + sumC c σ.2.2.1 ≤ 64 * MXC ∧ σ.2.2.2.2 + 64 * e + 2 * sumC c σ.2.2.1 ≤ MXS
/-- what the side is asked -/
def SCok (c : SC) : Prop := c.rws.Nodup ∧ ∀ k ∈ c.rws, c.isn k = 0 → ALM ≤ c.LM k
def NI (c : SC) (nds : List ND) (fr : Int32) : Prop := ∀ (n : Nat) (k a b d p : Int32), nds[n]? = some (k, a, b, d, p) → k = 11 ∨ k = 32 → ∃ i, a = c.cv i ∧ i.toInt < 8192 + fr.toInt
def RL (c : SC) (nds : List ND) (LV : AL) (L : LL) : Prop := ∀ k, rep c.cv nds (LV k) (L k)
abbrev HH : Type := Nat → List Int32
def RR (c : SC) (h : List Int32) (nds : List ND) (o : Nat) (l : List V) (m : List Int32) : Prop := h.length = o ∧ ∃ l', m = h ++ l' ∧ F2 (rep c.cv nds) l l'
def RS (c : SC) (h : HH) (A : AS) (σ : SS) (nds : List ND) : Prop :=
  (∀ k, σ.1 k = A.1 k) ∧ (∀ k, c.isn k = 0 → RR c (h k) nds (A.of k) (A.R k) (σ.2.1 k)) ∧ (∀ k, c.isn k = 1 → σ.2.1 k = c.nrow k nds) ∧ nds.length = A.nn ∧ nds.length ≤ ALM ∧ NI c nds (A.1 c.frk) ∧ RM c A.fl σ
def OK {α β : Type} (c : SC) (h : HH) (Rv : List ND → β → α → Prop) (nds : List ND) (L : LL) (r : Option (Option α × LL × SS)) (r' : Option (Option β × AS)) : Prop := match r' with
  | none => True
  | some (none, A') => ∃ σ' nds', r = some (none, L, σ') ∧ RS c h A' σ' nds' ∧ nds <+: nds'
  | some (some v, A') => ∃ x σ' nds', r = some (some x, L, σ') ∧ Rv nds' v x ∧ RS c h A' σ' nds' ∧ nds <+: nds'
def OKm (c : SC) (h : HH) (nds : List ND) (r : Option (Option Int32 × SS)) (r' : Option (Option V × AS)) : Prop := match r' with
  | none => True
  | some (none, A') => ∃ σ' nds', r = some (none, σ') ∧ RS c h A' σ' nds' ∧ nds <+: nds'
  | some (some v, A') => ∃ x σ' nds', r = some (some x, σ') ∧ rep c.cv nds' v x ∧ RS c h A' σ' nds' ∧ nds <+: nds'
def OKs (c : SC) (h : HH) (nds : List ND) (r : Option ((Nat × Int32) × LL × SS)) (r' : Option ((Nat × V) × AL × AS)) : Prop := match r' with
  | none => True
  | some (f, LV', A') => ∃ f' L' σ' nds', r = some (f', L', σ') ∧ f'.1 = f.1 ∧ rep c.cv nds' f.2 f'.2 ∧ RL c nds' LV' L' ∧ RS c h A' σ' nds' ∧ nds <+: nds'
def rv (c : SC) : List ND → V → Int32 → Prop := fun nds v x => rep c.cv nds v x
def rbq : List ND → Bool → Bool → Prop := fun _ b d => d = b
def rvs (c : SC) : List ND → List V → List Int32 → Prop := fun nds vs xs => F2 (rep c.cv nds) vs xs
def ER (c : SC) (a : EX) (a' : AX) : Prop := ∀ h L σ LV A nds, RL c nds LV L → RS c h A σ nds → OK c h (rv c) nds L (a L σ) (a' LV A)
def EP (c : SC) (a : EX) (a' : AX) : Prop := ∀ h L σ LV A nds, RL c nds LV L → RS c h A σ nds → match a' LV A with
  | none => True
  | some (none, _) => False
  | some (some v, A') => A' = A ∧ ∃ x, a L σ = some (some x, L, σ) ∧ rep c.cv nds v x
def CR (c : SC) (a : CX) (a' : BX) : Prop := ∀ h L σ LV A nds, RL c nds LV L → RS c h A σ nds → OK c h rbq nds L (a L σ) (a' LV A)
def GR (c : SC) (a : List EX) (a' : List AX) : Prop := ∀ h L σ LV A nds, RL c nds LV L → RS c h A σ nds → OK c h (rvs c) nds L (eArgs a L σ) (aArgs a' LV A)
def SR (c : SC) (s : SX) (z : ZX) : Prop := ∀ h L σ LV A nds, RL c nds LV L → RS c h A σ nds → OKs c h nds (s L σ) (z LV A)
def AR (c : SC) (rec : RC) (arc : ARC) : Prop := ∀ h t vs xs A σ nds, F2 (rep c.cv nds) vs xs → RS c h A σ nds → OKm c h nds (rec t xs σ) (arc t vs A)
section REL
variable {c : SC} {hd : HH} {nds nds' : List ND} {L : LL} {LV : AL} {σ σ' : SS} {A A' : AS}
theorem RL.mono (h : RL c nds LV L) (hp : nds <+: nds') : RL c nds' LV L := fun k => rep_mono hp _ _ (h k)
theorem RL.up (h : RL c nds LV L) {k : Nat} {v : V} {x : Int32} (hv : rep c.cv nds v x) : RL c nds (va_up LV k v) (va_up L k x) := by
  intro j
  by_cases hj : j = k
  · subst hj; rw [va_up_self, va_up_self]; exact hv
  · rw [va_up_ne _ _ hj, va_up_ne _ _ hj]; exact h j
theorem rep_int {cv : Int32 → Int32} {nds : List ND} {i x : Int32} : rep cv nds (.int i) x ↔ x = i := by rw [rep]
theorem F2.mono {cv : Int32 → Int32} (hp : nds <+: nds') {s : List V} {t : List Int32} (h : F2 (rep cv nds) s t) : F2 (rep cv nds') s t := h.imp fun _ _ => rep_mono hp _ _
theorem OK.bnd {α β α' β' : Type} {Rv : List ND → β → α → Prop} {Rw : List ND → β' → α' → Prop} {r : Option (Option α × LL × SS)} {r' : Option (Option β × AS)} {f : α → LL → SS → Option (Option α' × LL × SS)} {f' : β → AS → Option (Option β' × AS)}
    (h : OK c hd Rv nds L r r') (hf : ∀ x v σ' A' nds', Rv nds' v x → RS c hd A' σ' nds' → nds <+: nds' → OK c hd Rw nds' L (f x L σ') (f' v A')) : OK c hd Rw nds L (bnd r f) (ab r' f') := by
  match r', h with
  | none, _ => exact trivial
  | some (none, A'), h =>
    obtain ⟨σ', nds', e, h1, h2⟩ := h
    subst e
    exact ⟨σ', nds', rfl, h1, h2⟩
  | some (some v, A'), h =>
    obtain ⟨x, σ', nds', e, h0, h1, h2⟩ := h
    subst e
    have := hf x v σ' A' nds' h0 h1 h2
    show OK c hd Rw nds L (f x L σ') (f' v A')
    generalize f x L σ' = q at this ⊢
    generalize f' v A' = q' at this ⊢
    match q', this with
    | none, _ => exact trivial
    | some (none, A2), h =>
      obtain ⟨σ2, nds2, e, g1, g2⟩ := h
      exact ⟨σ2, nds2, e, g1, h2.trans g2⟩
    | some (some w, A2), h =>
      obtain ⟨y, σ2, nds2, e, g0, g1, g2⟩ := h
      exact ⟨y, σ2, nds2, e, g0, g1, h2.trans g2⟩
theorem OK.ret {α β : Type} {Rv : List ND → β → α → Prop} {x : α} {v : β} (hS : RS c hd A σ nds) (h : Rv nds v x) : OK c hd Rv nds L (some (some x, L, σ)) (some (some v, A)) := ⟨x, σ, nds, rfl, h, hS, List.prefix_refl _⟩
theorem OK.aok {α β : Type} {Rv : List ND → β → α → Prop} {x : α} {w : Option β} (hS : RS c hd A σ nds) (h : ∀ v, w = some v → Rv nds v x) : OK c hd Rv nds L (some (some x, L, σ)) (aok w A) := by
  cases w with
  | none => exact trivial
  | some v => exact OK.ret hS (h v rfl)
theorem EP.er {a : EX} {a' : AX} (h : EP c a a') : ER c a a' := by
  intro hd L σ LV A nds hL hS
  have := h hd L σ LV A nds hL hS
  generalize a' LV A = q at this ⊢
  match q, this with
  | none, _ => exact trivial
  | some (some v, A'), h =>
    obtain ⟨e, x, h1, h2⟩ := h
    subst e
    exact ⟨x, σ, nds, h1, h2, hS, List.prefix_refl _⟩
theorem p_K {v : Int32} : EP c (eK v) (aK v) := fun _ _ _ _ _ _ _ _ => ⟨rfl, v, rfl, rep_int.mpr rfl⟩
theorem p_L {k : Nat} : EP c (eL k) (aL k) := fun _ L _ _ _ _ hL _ => ⟨rfl, L k, rfl, hL k⟩
theorem p_F {k : Nat} : EP c (eF k) (aF k) := fun _ _ σ _ A _ _ hS => ⟨rfl, σ.1 k, rfl, rep_int.mpr (hS.1 k)⟩
theorem EP.bnd {a : EX} {a' : AX} (h : EP c a a') {f : Int32 → LL → SS → Option (Option Int32 × LL × SS)} {f' : V → AS → Option (Option V × AS)} (hL : RL c nds LV L) (hS : RS c hd A σ nds)
    (hf : ∀ x v, rep c.cv nds v x → match f' v A with
      | none => True
      | some (none, _) => False
      | some (some w, A') => A' = A ∧ ∃ y, f x L σ = some (some y, L, σ) ∧ rep c.cv nds w y) : match ab (a' LV A) f' with
      | none => True
      | some (none, _) => False
      | some (some w, A') => A' = A ∧ ∃ y, bnd (a L σ) f = some (some y, L, σ) ∧ rep c.cv nds w y := by
  have h := h hd L σ LV A nds hL hS
  generalize a' LV A = q at h ⊢
  match q, h with
  | none, _ => exact trivial
  | some (some v, A'), h =>
    obtain ⟨e, x, h1, h2⟩ := h
    subst e
    rw [h1]
    exact hf x v h2
theorem EP.fin {x : Int32} {w : Option V} (h : ∀ v, w = some v → rep c.cv nds v x) : match aok w A with
      | none => True
      | some (none, _) => False
      | some (some w, A') => A' = A ∧ ∃ y, some (some x, L, σ) = some (some y, L, σ) ∧ rep c.cv nds w y := by
  cases w with
  | none => exact trivial
  | some v => exact ⟨rfl, x, rfl, h v rfl⟩
theorem vbin_rep {op : Int32 → Int32 → Int32} {x y : Int32} {v w z : V} {cv : Int32 → Int32} (hv : rep cv nds v x) (hw : rep cv nds w y) (h : vbin op v w = some z) : rep cv nds z (op x y) := by
  unfold vbin at h
  split at h
  · have e := Option.some.inj h
    subst e
    rw [rep_int] at hv hw ⊢
    rw [hv, hw]
  · cases h
theorem vdiv_rep {op : Int32 → Int32 → Int32} {x y : Int32} {v w z : V} {cv : Int32 → Int32} (hv : rep cv nds v x) (hw : rep cv nds w y) (h : vdiv op v w = some z) : y ≠ 0 ∧ rep cv nds z (op x y) := by
  unfold vdiv at h
  split at h
  · split at h
    · cases h
    · next hn =>
      have e := Option.some.inj h
      subst e
      rw [rep_int] at hv hw ⊢
      rw [hv, hw]
      exact ⟨hn, rfl⟩
  · cases h
theorem vb8_rep {x : Int32} {v z : V} {cv : Int32 → Int32} (hv : rep cv nds v x) (h : vb8 v = some z) : rep cv nds z x.toInt8.toInt32 := by
  unfold vb8 at h
  split at h
  · have e := Option.some.inj h
    subst e
    rw [rep_int] at hv ⊢
    rw [hv]
  · cases h
theorem RR.len {h : List Int32} {o : Nat} {l : List V} {m : List Int32} (q : RR c h nds o l m) : m.length = o + l.length := by
  obtain ⟨q1, l', e, q2⟩ := q
  rw [e, List.length_append, q1, q2.len]
theorem aix_rep {h0 : List Int32} {o : Nat} {l : List V} {m : List Int32} {j : V} {x : Int32} {v : V} (hl : RR c h0 nds o l m) (hj : rep c.cv nds j x) (h : aix o l j = some v) : ∃ y, ix m x = some y ∧ rep c.cv nds v y := by
  obtain ⟨q1, l', e, q2⟩ := hl
  unfold aix at h
  split at h
  · rw [rep_int] at hj
    subst hj
    split at h
    · cases h
    · next hn =>
      obtain ⟨y, h1, h2⟩ := q2.get h
      refine ⟨y, ?_, h2⟩
      unfold ix
      rw [if_neg (fun q => hn (Or.inl q)), e, List.getElem?_append_right (by omega), q1]
      exact h1
  · cases h
theorem RR.mono {h : List Int32} {o : Nat} {l : List V} {m : List Int32} (q : RR c h nds o l m) (hp : nds <+: nds') : RR c h nds' o l m := by
  obtain ⟨q1, l', e, q2⟩ := q
  exact ⟨q1, l', e, q2.mono hp⟩
theorem p_Sz {k : Nat} (hk : c.isn k = 0) : EP c (eSz k) (aSz k) := fun _ _ σ _ A _ _ hS => ⟨rfl, _, rfl, rep_int.mpr (by rw [RR.len (hS.2.1 k hk)])⟩
theorem p_bin {op : Int32 → Int32 → Int32} {a b : EX} {a' b' : AX} (ha : EP c a a') (hb : EP c b b') : EP c (eBin op a b) (aBin op a' b') := by
  intro hd L σ LV A nds hL hS
  exact EP.bnd ha hL hS fun x v hv => EP.bnd hb hL hS fun y w hw => EP.fin fun z hz => vbin_rep hv hw hz
theorem p_At {k : Nat} {a : EX} {a' : AX} (hk : c.isn k = 0) (ha : EP c a a') : EP c (eAt k a) (aAt k a') := by
  intro hd L σ LV A nds hL hS
  refine EP.bnd ha hL hS fun x v hv => ?_
  rw [if_pos rfl]
  cases h : aix (A.of k) (A.R k) v with
  | none => exact trivial
  | some w =>
    obtain ⟨y, h1, h2⟩ := aix_rep (hS.2.1 k hk) hv h
    rw [h1]
    exact ⟨rfl, y, rfl, h2⟩
theorem p_Ar {k : Nat} {a : EX} {a' : AX} (hk : c.isn k = 0) (ha : EP c a a') : EP c (eArr k a) (aAt k a') := by
  intro hd L σ LV A nds hL hS
  refine EP.bnd ha hL hS fun x v hv => ?_
  cases h : aix (A.of k) (A.R k) v with
  | none => exact trivial
  | some w =>
    obtain ⟨y, h1, h2⟩ := aix_rep (hS.2.1 k hk) hv h
    rw [h1]
    exact ⟨rfl, y, rfl, h2⟩
theorem r_bin {op : Int32 → Int32 → Int32} {a b : EX} {a' b' : AX} (ha : ER c a a') (hb : ER c b b') : ER c (eBin op a b) (aBin op a' b') := by
  intro hd L σ LV A nds hL hS
  refine OK.bnd (ha hd L σ LV A nds hL hS) fun x v σ1 A1 n1 hv h1 hp1 => OK.bnd (hb hd L σ1 LV A1 n1 (hL.mono hp1) h1) fun y w σ2 A2 n2 hw h2 hp2 => OK.aok h2 fun z hz => vbin_rep (rep_mono hp2 _ _ hv) hw hz
theorem r_div {op : Int32 → Int32 → Int32} {a b : EX} {a' b' : AX} (ha : ER c a a') (hb : ER c b b') : ER c (eDiv op a b) (aDiv op a' b') := by
  intro hd L σ LV A nds hL hS
  refine OK.bnd (ha hd L σ LV A nds hL hS) fun x v σ1 A1 n1 hv h1 hp1 => OK.bnd (hb hd L σ1 LV A1 n1 (hL.mono hp1) h1) fun y w σ2 A2 n2 hw h2 hp2 => ?_
  cases h : vdiv op v w with
  | none => exact trivial
  | some z =>
    obtain ⟨q1, q2⟩ := vdiv_rep (rep_mono hp2 _ _ hv) hw h
    rw [if_neg q1]
    exact OK.ret h2 q2
theorem r_B {a : EX} {a' : AX} (ha : ER c a a') : ER c (eB a) (aB a') := by
  intro hd L σ LV A nds hL hS
  exact OK.bnd (ha hd L σ LV A nds hL hS) fun x v σ1 A1 n1 hv h1 hp1 => OK.aok h1 fun z hz => vb8_rep hv hz
/-- the index may do something: then the row is an array that never grows -/
theorem r_Ar {k : Nat} {a : EX} {a' : AX} (hk : c.isn k = 0) (ha : ER c a a') : ER c (eArr k a) (aAt k a') := by
  intro hd L σ LV A nds hL hS
  refine OK.bnd (ha hd L σ LV A nds hL hS) fun x v σ1 A1 n1 hv h1 hp1 => ?_
  cases h : aix (A1.of k) (A1.R k) v with
  | none => exact trivial
  | some w =>
    obtain ⟨y, q1, q2⟩ := aix_rep (h1.2.1 k hk) hv h
    rw [q1]
    exact OK.ret h1 q2
theorem g_nil : GR c [] [] := fun _ _ _ _ _ _ _ hS => OK.ret hS trivial
theorem g_cons {a : EX} {a' : AX} {t : List EX} {t' : List AX} (ha : ER c a a') (ht : GR c t t') : GR c (a :: t) (a' :: t') := by
  intro hd L σ LV A nds hL hS
  exact OK.bnd (ha hd L σ LV A nds hL hS) fun x v σ1 A1 n1 hv h1 hp1 => OK.bnd (ht hd L σ1 LV A1 n1 (hL.mono hp1) h1) fun y w σ2 A2 n2 hw h2 hp2 => OK.ret h2 ⟨rep_mono hp2 _ _ hv, hw⟩
theorem r_call {rec : RC} {arc : ARC} (hR : AR c rec arc) {t : Nat} {as : List EX} {as' : List AX} (ha : GR c as as') : ER c (eCall rec t as) (aCall arc t as') := by
  intro hd L σ LV A nds hL hS
  refine OK.bnd (ha hd L σ LV A nds hL hS) fun xs vs σ1 A1 n1 hv h1 hp1 => ?_
  have := hR hd t vs xs A1 σ1 n1 hv h1
  generalize arc t vs A1 = q at this ⊢
  match q, this with
  | none, _ => exact trivial
  | some (none, A2), h =>
    obtain ⟨σ2, n2, e, g1, g2⟩ := h
    rw [e]
    exact ⟨σ2, n2, rfl, g1, g2⟩
  | some (some w, A2), h =>
    obtain ⟨y, σ2, n2, e, g0, g1, g2⟩ := h
    rw [e]
    exact ⟨y, σ2, n2, rfl, g0, g1, g2⟩
theorem RM.len {e0 : Nat} (h : RM c e0 σ) {k : Nat} {l : List Int32} (hl : l.length ≤ (σ.2.1 k).length) : RM c e0 (putR σ k l) := by
  refine ⟨fun j hj => ?_, h.2⟩
  obtain ⟨h1, h2⟩ := h.1 j hj
  refine ⟨?_, h2⟩
  show (va_up σ.2.1 k l j).length ≤ _
  by_cases e : j = k
  · subst e; rw [va_up_self]; exact Nat.le_trans hl h1
  · rw [va_up_ne _ _ e]; exact h1
theorem RS.putR (h : RS c hd A σ nds) {k : Nat} {l' : List V} {l : List Int32} (hk : c.isn k = 0) (hl : RR c (hd k) nds (A.of k) l' l) (hlen : l.length ≤ (σ.2.1 k).length) : RS c hd (apR A k l') (putR σ k l) nds := by
  obtain ⟨h1, h2, h3, h4, h5, h6, h7⟩ := h
  refine ⟨h1, fun j hj => ?_, fun j hj => ?_, h4, h5, h6, h7.len hlen⟩
  · show RR c (hd j) nds (A.of j) (va_up A.2.1 k l' j) (va_up σ.2.1 k l j)
    by_cases e : j = k
    · subst e; rw [va_up_self, va_up_self]; exact hl
    · rw [va_up_ne _ _ e, va_up_ne _ _ e]; exact h2 j hj
  · show va_up σ.2.1 k l j = _
    rw [va_up_ne _ _ (fun e => by subst e; rw [hk] at hj; cases hj)]
    exact h3 j hj
theorem RS.putF (h : RS c hd A σ nds) {k : Nat} {v : Int32} (hk : k ≠ c.frk ∨ (A.1 k).toInt ≤ v.toInt) : RS c hd (apF A k v) (putF σ k v) nds := by
  obtain ⟨h1, h2, h3, h4, h5, h6, h7⟩ := h
  refine ⟨fun j => ?_, h2, h3, h4, h5, ?_, h7⟩
  · show va_up σ.1 k v j = va_up A.1 k v j
    by_cases e : j = k
    · subst e; rw [va_up_self, va_up_self]
    · rw [va_up_ne _ _ e, va_up_ne _ _ e]; exact h1 j
  · show NI c nds (va_up A.1 k v c.frk)
    by_cases e : c.frk = k
    · rw [← e, va_up_self]
      rcases hk with hk | hk
      · exact absurd e.symm hk
      · intro n k0 a b d p q1 q2
        obtain ⟨i, q3, q4⟩ := h6 n k0 a b d p q1 q2
        refine ⟨i, q3, ?_⟩
        rw [← e] at hk
        omega
    · rw [va_up_ne _ _ e]; exact h6
theorem r_pop {k : Nat} (hk : c.isn k = 0) : ER c (ePop k) (aPop k) := by
  intro hd L σ LV A nds hL hS
  unfold aPop
  split
  · next v hv =>
    obtain ⟨q1, l', e, q2⟩ := hS.2.1 k hk
    obtain ⟨x, h1, h2⟩ := q2.last hv
    have hne : l' ≠ [] := fun q => by rw [q] at h1; cases h1
    have e1 : (σ.2.1 k).getLast? = some x := by rw [e, List.getLast?_append, h1]; rfl
    have e2 : (σ.2.1 k).dropLast = hd k ++ l'.dropLast := by rw [e, List.dropLast_append_of_ne_nil hne]
    refine ⟨x, putR σ k (σ.2.1 k).dropLast, nds, ?_, h2, hS.putR hk ⟨q1, l'.dropLast, e2, q2.drL⟩ (by simp), List.prefix_refl _⟩
    unfold ePop rowPop
    rw [e1]
    rfl
  · exact trivial
theorem r_FU {k : Nat} {d : Int32} : ER c (eFI k d) (aFU k d) := by
  intro hd L σ LV A nds hL hS
  unfold aFU
  split
  · next hv =>
    refine ⟨σ.1 k, putF σ k (σ.1 k + d), nds, rfl, rep_int.mpr (hS.1 k), ?_, List.prefix_refl _⟩
    rw [hS.1 k]
    exact hS.putF (Or.inr hv)
  · exact trivial
theorem r_if {q : CX} {q' : BX} {a b : EX} {a' b' : AX} (hq : CR c q q') (ha : ER c a a') (hb : ER c b b') : ER c (eIf q a b) (aIf q' a' b') := by
  intro hd L σ LV A nds hL hS
  refine OK.bnd (hq hd L σ LV A nds hL hS) fun x v σ1 A1 n1 hv h1 hp1 => ?_
  have hv : x = v := hv
  subst hv
  cases x with
  | true => exact ha hd L σ1 LV A1 n1 (hL.mono hp1) h1
  | false => exact hb hd L σ1 LV A1 n1 (hL.mono hp1) h1
theorem tree_rep {cv : Int32 → Int32} {s t : V} {x : Int32} (h : rep cv nds (.elem s t) x) : ∃ n, n < 2 ^ 30 ∧ x = nI n := by
  rw [rep.eq_def] at h
  split at h
  · next e => cases e
  · obtain ⟨n, _, _, _, h1, h2, _⟩ := h; exact ⟨n, h1, h2⟩
  · exact h.elim
theorem cmpV_rep {cd : ClassFile.Cond} {x y : Int32} {v w : V} {b : Bool} {cv : Int32 → Int32} (hv : rep cv nds v x) (hw : rep cv nds w y) (h : cmpV cd v w = some b) : holdC cd x y = b := by
  unfold cmpV at h
  split at h
  · rw [rep_int] at hv hw
    rw [hv, hw]
    exact Option.some.inj h
  · rw [rep_int] at hw
    obtain ⟨n, hn, e⟩ := tree_rep hv
    subst e
    subst hw
    have h0 : ¬ nI n < 0 := nI_pos (by omega)
    have h1 : (0 : Int32) ≤ nI n := nI_pos' (by omega)
    have h2 : (-1 : Int32) < nI n := by
      rw [Int32.lt_iff_toInt_lt, nI_toInt (by omega)]
      have : (-1 : Int32).toInt = -1 := by decide
      omega
    have h3 : nI n ≠ -1 := fun e => by rw [e] at h2; exact absurd h2 (by decide)
    have h4 : ¬ nI n < -1 := fun q => by
      rw [Int32.lt_iff_toInt_lt] at q h2; omega
    have h5 : (-1 : Int32) ≤ nI n := by
      rw [Int32.le_iff_toInt_le]; rw [Int32.lt_iff_toInt_lt] at h2; omega
    have h6 : ¬ nI n ≤ -1 := fun q => by
      rw [Int32.le_iff_toInt_le] at q; rw [Int32.lt_iff_toInt_lt] at h2; omega
    split at h
    · next e =>
      subst e
      cases cd <;> (have h := Option.some.inj h; subst h; simp [holdC, h2, h3, h4, h5, h6])
    · split at h
      · next e =>
        subst e
        cases cd <;> first | cases h; done | (have h := Option.some.inj h; subst h; simp [holdC, h0, h1])
      · cases h
  · cases h
theorem kr_cmp {cd : ClassFile.Cond} {a b : EX} {a' b' : AX} (ha : ER c a a') (hb : ER c b b') : CR c (cCmp cd a b) (bCmp cd a' b') := by
  intro hd L σ LV A nds hL hS
  exact OK.bnd (ha hd L σ LV A nds hL hS) fun x v σ1 A1 n1 hv h1 hp1 => OK.bnd (hb hd L σ1 LV A1 n1 (hL.mono hp1) h1) fun y w σ2 A2 n2 hw h2 hp2 => OK.aok h2 fun z hz => cmpV_rep (rep_mono hp2 _ _ hv) hw hz
theorem kr_z {cd : ClassFile.Cond} {a : EX} {a' : AX} (ha : ER c a a') : CR c (cZ cd a) (bZ cd a') := by
  intro hd L σ LV A nds hL hS
  exact OK.bnd (ha hd L σ LV A nds hL hS) fun x v σ1 A1 n1 hv h1 hp1 => OK.aok h1 fun z hz => cmpV_rep hv (rep_int.mpr rfl) hz
theorem kr_tt : CR c cTT bTT := fun _ _ _ _ _ _ _ hS => OK.ret hS rfl
theorem kr_An {a b : CX} {a' b' : BX} (ha : CR c a a') (hb : CR c b b') : CR c (cAnd a b) (bAnd a' b') := by
  intro hd L σ LV A nds hL hS
  refine OK.bnd (ha hd L σ LV A nds hL hS) fun x v σ1 A1 n1 hv h1 hp1 => ?_
  have hv : x = v := hv
  subst hv
  cases x with
  | true => exact hb hd L σ1 LV A1 n1 (hL.mono hp1) h1
  | false => exact OK.ret h1 rfl
theorem kr_Or {a b : CX} {a' b' : BX} (ha : CR c a a') (hb : CR c b b') : CR c (cOr a b) (bOr a' b') := by
  intro hd L σ LV A nds hL hS
  refine OK.bnd (ha hd L σ LV A nds hL hS) fun x v σ1 A1 n1 hv h1 hp1 => ?_
  have hv : x = v := hv
  subst hv
  cases x with
  | false => exact hb hd L σ1 LV A1 n1 (hL.mono hp1) h1
  | true => exact OK.ret h1 rfl
theorem kr_Nt {a : CX} {a' : BX} (ha : CR c a a') : CR c (cNot a) (bNot a') := by
  intro hd L σ LV A nds hL hS
  refine OK.bnd (ha hd L σ LV A nds hL hS) fun x v σ1 A1 n1 hv h1 hp1 => ?_
  have hv : x = v := hv
  subst hv
  exact OK.ret h1 rfl
theorem kr_If {q a b : CX} {q' a' b' : BX} (hq : CR c q q') (ha : CR c a a') (hb : CR c b b') : CR c (cIf q a b) (bIf q' a' b') := by
  intro hd L σ LV A nds hL hS
  refine OK.bnd (hq hd L σ LV A nds hL hS) fun x v σ1 A1 n1 hv h1 hp1 => ?_
  have hv : x = v := hv
  subst hv
  cases x with
  | true => exact ha hd L σ1 LV A1 n1 (hL.mono hp1) h1
  | false => exact hb hd L σ1 LV A1 n1 (hL.mono hp1) h1
end REL
