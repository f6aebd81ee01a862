/-! running the tree level -/
abbrev KT : Type := AL → AS → Option (Option V × AS)
def nk : KT := fun _ _ => none
def rn (r : Option ((Nat × V) × AL × AS)) (K B C : KT) : Option (Option V × AS) := match r with
  | none => none
  | some (f, L, A) => if f.1 = 0 then K L A else if f.1 = 1 then some (some f.2, A) else if f.1 = 2 then some (none, A) else if f.1 = 3 then B L A else if f.1 = 4 then C L A else none
def fin (rt isb : Bool) (r : Option (Option V × AS)) : Option (Option V × AS) := match r with
  | some (some v, A) => if isb && !isBv v then none else some (some (if rt then v else .int 0), A)
  | some (none, A) => some (none, A)
  | none => none
def og (r : Option AS) (f : AS → Option (Option V × AS)) : Option (Option V × AS) := match r with
  | none => none
  | some A => f A
def b2i (q : Bool) : Int32 := if q then 1 else 0
theorem amth_eq (inst rt isb : Bool) (np : Nat) (z : ZX) (vs : List V) (A : AS) : amth inst rt isb np z vs A = if vs.length = np then fin rt isb (rn (z (A0of inst vs) A) nk nk nk) else none := by
  unfold amth
  by_cases h : vs.length = np
  · rw [if_pos h, if_pos h]
    cases z (A0of inst vs) A with
    | none => rfl
    | some q =>
      obtain ⟨⟨f, v⟩, L, A'⟩ := q
      match f with
      | 0 => rfl
      | 1 => rfl
      | 2 => rfl
      | 3 => rfl
      | 4 => rfl
      | n + 5 =>
        have e : rn (some ((n + 5, v), L, A')) nk nk nk = none := by
          unfold rn
          dsimp only
          rw [if_neg (by omega), if_neg (by omega), if_neg (by omega), if_neg (by omega), if_neg (by omega)]
        rw [e]
        rfl
  · rw [if_neg h, if_neg h]
section RNS
variable {L : AL} {A : AS} {K B C : KT}
theorem ab_ok {α β : Type} (v : α) (A : AS) (f : α → AS → Option (Option β × AS)) : ab (some (some v, A)) f = f v A := rfl
theorem ab_no {α β : Type} (A : AS) (f : α → AS → Option (Option β × AS)) : ab (some (none, A)) f = some (none, A) := rfl
theorem ab_none {α β : Type} (f : α → AS → Option (Option β × AS)) : ab none f = none := rfl
theorem ab_ab {α β γ : Type} (r : Option (Option α × AS)) (f : α → AS → Option (Option β × AS)) (g : β → AS → Option (Option γ × AS)) : ab (ab r f) g = ab r fun v A => ab (f v A) g := by
  match r with
  | none => rfl
  | some (none, A) => rfl
  | some (some v, A) => rfl
theorem ab_ite {α β : Type} (q : Prop) [Decidable q] (x y : Option (Option α × AS)) (f : α → AS → Option (Option β × AS)) : ab (if q then x else y) f = if q then ab x f else ab y f := by
  split <;> rfl
theorem aok_ok {α : Type} (v : α) (A : AS) : aok (some v) A = some (some v, A) := rfl
theorem aok_none {α : Type} (A : AS) : aok (none : Option α) A = none := rfl
theorem og_ok (A : AS) (f : AS → Option (Option V × AS)) : og (some A) f = f A := rfl
theorem og_none (f : AS → Option (Option V × AS)) : og none f = none := rfl
theorem og_ite (q : Prop) [Decidable q] (x y : Option AS) (f : AS → Option (Option V × AS)) : og (if q then x else y) f = if q then og x f else og y f := by
  split <;> rfl
theorem rn_zb {α : Type} (r : Option (Option α × AS)) (L : AL) (f : α → AS → Option ((Nat × V) × AL × AS)) (K B C : KT) : rn (zb r L f) K B C = ab r fun v A => rn (f v A) K B C := by
  match r with
  | none => rfl
  | some (none, A) => rfl
  | some (some v, A) => rfl
theorem rn_zgo (L : AL) (r : Option AS) (K B C : KT) : rn (zgo L r) K B C = og r fun A => K L A := by
  cases r with
  | none => rfl
  | some A => rfl
theorem rn_skip : rn (zSkip L A) K B C = K L A := rfl
theorem rn_ret0 : rn (zRet0 L A) K B C = some (some (.int 0), A) := rfl
theorem rn_brk : rn (zBrk L A) K B C = B L A := rfl
theorem rn_cnt : rn (zCnt L A) K B C = C L A := rfl
theorem rn_seq (a b : ZX) : rn (zSeq a b L A) K B C = rn (a L A) (fun L A => rn (b L A) K B C) B C := by
  unfold zSeq
  cases a L A with
  | none => rfl
  | some q =>
    obtain ⟨f, L', A'⟩ := q
    dsimp only
    by_cases h : f.1 = 0
    · rw [if_pos h]
      simp only [rn, if_pos h]
    · rw [if_neg h]
      simp only [rn, if_neg h]
theorem rn_ite (q : Prop) [Decidable q] (x y : Option ((Nat × V) × AL × AS)) : rn (if q then x else y) K B C = if q then rn x K B C else rn y K B C := by
  split <;> rfl
theorem rn_if (c : BX) (a b : ZX) : rn (zIf c a b L A) K B C = ab (c L A) fun q A => if q = true then rn (a L A) K B C else rn (b L A) K B C := by
  unfold zIf
  rw [rn_zb]
  simp only [rn_ite]
theorem rn_set (k : Nat) (a : AX) : rn (zSet k a L A) K B C = ab (a L A) fun v A => K (va_up L k v) A := by
  unfold zSet
  rw [rn_zb]
  rfl
theorem rn_inc (k : Nat) (d : Int32) : rn (zInc k d L A) K B C = ab (aok (vbin oAdd (L k) (.int d)) A) fun v A => K (va_up L k v) A := by
  unfold zInc
  cases vbin oAdd (L k) (.int d) <;> rfl
theorem rn_ex (a : AX) : rn (zEx a L A) K B C = ab (a L A) fun _ A => K L A := by
  unfold zEx
  rw [rn_zb]
  rfl
theorem rn_ret (a : AX) : rn (zRet a L A) K B C = ab (a L A) fun v A => some (some v, A) := by
  unfold zRet
  rw [rn_zb]
  rfl
theorem rn_putF (k : Nat) (a : AX) : rn (zPutF k a L A) K B C = ab (a L A) fun v A => og (vput A k v) fun A => K L A := by
  unfold zPutF
  rw [rn_zb]
  simp only [rn_zgo]
theorem rn_opF (op : Int32 → Int32 → Int32) (k : Nat) (a : AX) : rn (zOpF op k a L A) K B C = ab (a L A) fun v A' => og ((vbin op (.int (A.1 k)) v).bind (vput A' k)) fun A => K L A := by
  unfold zOpF
  rw [rn_zb]
  simp only [rn_zgo]
theorem rn_opU (op : Int32 → Int32 → Int32) (k : Nat) (a : AX) : rn (zOpU op k a L A) K B C = ab (a L A) fun v A' => og ((vbin op (.int (A.1 k)) v).bind (vputU A' k)) fun A => K L A := by
  unfold zOpU
  rw [rn_zb]
  simp only [rn_zgo]
theorem rn_putS (k : Nat) (a : AX) : rn (zPutS k a L A) K B C = ab (a L A) fun v A => og (vsize A k v) fun A => K L A := by
  unfold zPutS
  rw [rn_zb]
  simp only [rn_zgo]
theorem rn_opS (op : Int32 → Int32 → Int32) (k : Nat) (a : AX) : rn (zOpS op k a L A) K B C = ab (a L A) fun v A' => og ((vbin op (.int (nI (A.of k + (A.R k).length))) v).bind (vsize A' k)) fun A => K L A := by
  unfold zOpS
  rw [rn_zb]
  simp only [rn_zgo]
theorem rn_at (k : Nat) (i a : AX) : rn (zAt k i a L A) K B C = ab (i L A) fun j A => ab (a L A) fun v A => og (vset A k j v) fun A => K L A := by
  unfold zAt
  rw [rn_zb]
  simp only [rn_zb, rn_zgo]
theorem rn_atB (k : Nat) (i a : AX) : rn (zAtB k i a L A) K B C = ab (i L A) fun j A => ab (a L A) fun v A => if isB8 v = true then og (vset A k j v) fun A => K L A else none := by
  unfold zAtB
  rw [rn_zb]
  simp only [rn_zb, rn_ite, rn_zgo]
  rfl
theorem rn_add (k : Nat) (a : AX) : rn (zAdd k a L A) K B C = ab (a L A) fun v A => og (vadd A k v) fun A => K L A := by
  unfold zAdd
  rw [rn_zb]
  simp only [rn_zgo]
theorem rn_swap (k : Nat) (i j : AX) : rn (zSwap k i j L A) K B C = ab (i L A) fun x A => ab (j L A) fun y A => og (vswap A k x y) fun A => K L A := by
  unfold zSwap
  rw [rn_zb]
  simp only [rn_zb, rn_zgo]
theorem rn_sw (a : AX) (sel : Int32 → ZX) : rn (zSw a sel L A) K B C = ab (a L A) fun v A => match vI v with
    | some i => rn (sel i L A) K K C
    | none => none := by
  unfold zSw
  rw [rn_zb]
  congr 1
  funext v A
  cases vI v with
  | none => rfl
  | some i =>
    dsimp only
    unfold zbk
    cases sel i L A with
    | none => rfl
    | some q =>
      obtain ⟨f, L', A'⟩ := q
      dsimp only
      by_cases h : f.1 = 3
      · rw [if_pos h]
        simp [rn, h]
      · rw [if_neg h]
        simp only [rn, if_neg h]
theorem rn_f0 {f : Nat × V} (h : f.1 = 0) : rn (some (f, L, A)) K B C = K L A := by simp only [rn, if_pos h]
theorem rn_f4 {f : Nat × V} (h : f.1 = 4) : rn (some (f, L, A)) K B C = C L A := by simp [rn, h]
theorem rn_f3 {f : Nat × V} (h : f.1 = 3) : rn (some (f, L, A)) K B C = B L A := by simp [rn, h]
theorem rn_f9 {f : Nat × V} {K' B' C' : KT} (h0 : ¬ f.1 = 0) (h3 : ¬ f.1 = 3) (h4 : ¬ f.1 = 4) : rn (some (f, L, A)) K B C = rn (some (f, L, A)) K' B' C' := by simp only [rn, if_neg h0, if_neg h3, if_neg h4]
/-- how a step of a loop goes on -/
theorem rn_wh (n : Nat) (c : BX) (b st : ZX) : rn (zWh (n + 1) c b st L A) K B C = ab (c L A) fun q A => if q = true then rn (b L A) (fun L A => rn (st L A) (fun L A => rn (zWh n c b st L A) K B C) B C) (fun L A => K L A) (fun L A => rn (st L A) (fun L A => rn (zWh n c b st L A) K B C) B C) else K L A := by
  show rn (zb (c L A) L _) K B C = _
  rw [rn_zb]
  congr 1
  funext q A
  cases q with
  | false => rfl
  | true =>
    simp only [if_true]
    cases b L A with
    | none => rfl
    | some q =>
      obtain ⟨f, L', A'⟩ := q
      dsimp only
      by_cases h : f.1 = 0 ∨ f.1 = 4
      · rw [if_pos h]
        have key : rn (match st L' A' with
            | none => none
            | some (g, L, A) => if g.1 = 0 then zWh n c b st L A else some (g, L, A)) K B C = rn (st L' A') (fun L A => rn (zWh n c b st L A) K B C) B C := by
          cases st L' A' with
          | none => rfl
          | some q =>
            obtain ⟨g, L2, A2⟩ := q
            dsimp only
            by_cases h0 : g.1 = 0
            · rw [if_pos h0]
              simp only [rn, if_pos h0]
            · rw [if_neg h0]
              simp only [rn, if_neg h0]
        refine key.trans ?_
        rcases h with h | h
        · rw [rn_f0 h]
        · rw [rn_f4 h]
      · rw [if_neg h]
        have h0 : ¬ f.1 = 0 := fun q => h (Or.inl q)
        have h4 : ¬ f.1 = 4 := fun q => h (Or.inr q)
        by_cases h3 : f.1 = 3
        · rw [if_pos h3, rn_f3 h3]
          rfl
        · rw [if_neg h3]
          exact rn_f9 h0 h3 h4
theorem rn_do (n : Nat) (c : BX) (b : ZX) : rn (zDo (n + 1) b c L A) K B C = rn (b L A) (fun L A => ab (c L A) fun q A => if q = true then rn (zDo n b c L A) K B C else K L A) (fun L A => K L A) (fun L A => ab (c L A) fun q A => if q = true then rn (zDo n b c L A) K B C else K L A) := by
  show rn (match b L A with
    | none => none
    | some (f, L, A) => if f.1 = 0 ∨ f.1 = 4 then (zb (c L A) L fun q A => if q = true then zDo n b c L A else some ((0, .int 0), L, A)) else if f.1 = 3 then some ((0, .int 0), L, A) else some (f, L, A)) K B C = _
  cases b L A with
  | none => rfl
  | some q =>
    obtain ⟨f, L', A'⟩ := q
    dsimp only
    have key : rn (zb (c L' A') L' fun q A => if q = true then zDo n b c L' A else some ((0, .int 0), L', A)) K B C = ab (c L' A') fun q A => if q = true then rn (zDo n b c L' A) K B C else K L' A := by
      rw [rn_zb]
      simp only [rn_ite]
      rfl
    by_cases h : f.1 = 0 ∨ f.1 = 4
    · rw [if_pos h]
      refine key.trans ?_
      rcases h with h | h
      · rw [rn_f0 h]
      · rw [rn_f4 h]
    · rw [if_neg h]
      have h0 : ¬ f.1 = 0 := fun q => h (Or.inl q)
      have h4 : ¬ f.1 = 4 := fun q => h (Or.inr q)
      by_cases h3 : f.1 = 3
      · rw [if_pos h3, rn_f3 h3]
        rfl
      · rw [if_neg h3]
        exact rn_f9 h0 h3 h4
theorem fin_ok (r : Option (Option V × AS)) : fin true false r = r := by
  match r with
  | none => rfl
  | some (none, A) => rfl
  | some (some v, A) => rfl
theorem fin_ab {α : Type} (rt isb : Bool) (r : Option (Option α × AS)) (f : α → AS → Option (Option V × AS)) : fin rt isb (ab r f) = ab r fun v A => fin rt isb (f v A) := by
  match r with
  | none => rfl
  | some (none, A) => rfl
  | some (some v, A) => rfl
theorem fin_ite (rt isb : Bool) (q : Prop) [Decidable q] (x y : Option (Option V × AS)) : fin rt isb (if q then x else y) = if q then fin rt isb x else fin rt isb y := by
  split <;> rfl
theorem fin_og (rt isb : Bool) (r : Option AS) (f : AS → Option (Option V × AS)) : fin rt isb (og r f) = og r fun A => fin rt isb (f A) := by
  cases r <;> rfl
theorem fin_b (q : Bool) (A : AS) : fin true true (some (some (.int (b2i q)), A)) = some (some (.int (b2i q)), A) := by
  cases q <;> rfl
theorem fin_0 (A : AS) : fin true true (some (some (.int 0), A)) = some (some (.int 0), A) := rfl
theorem fin_1 (A : AS) : fin true true (some (some (.int 1), A)) = some (some (.int 1), A) := rfl
theorem fin_v (A : AS) (v : V) : fin false false (some (some v, A)) = some (some (.int 0), A) := rfl
theorem fin_no (rt isb : Bool) (A : AS) : fin rt isb (some (none, A)) = some (none, A) := rfl
theorem fin_none (rt isb : Bool) : fin rt isb none = none := rfl
theorem vbin_i (op : Int32 → Int32 → Int32) (i j : Int32) : vbin op (.int i) (.int j) = some (.int (op i j)) := rfl
theorem vb8_i (i : Int32) : vb8 (.int i) = some (.int i.toInt8.toInt32) := rfl
theorem vput_i (A : AS) (k : Nat) (i : Int32) : vput A k (.int i) = some (apF A k i) := rfl
theorem vI_i (i : Int32) : vI (.int i) = some i := rfl
theorem cmp_i (cd : ClassFile.Cond) (i j : Int32) : cmpV cd (.int i) (.int j) = some (holdC cd i j) := rfl
theorem cmp_tv (cd : ClassFile.Cond) (k : Int32) (a b c : V) (p : Int32) : cmpV cd (nd k a b c p) (.int (-1)) = some (match cd with | .eq => false | .ne => true | .lt => false | .ge => true | .gt => true | .le => false) := by
  cases cd <;> rfl
theorem cmp_t0 (k : Int32) (a b c : V) (p : Int32) : cmpV .lt (nd k a b c p) (.int 0) = some false ∧ cmpV .ge (nd k a b c p) (.int 0) = some true := ⟨rfl, rfl⟩
theorem hold_eq (i j : Int32) : holdC .eq i j = decide (i = j) := rfl
theorem hold_ne (i j : Int32) : holdC .ne i j = !decide (i = j) := by simp [holdC]
theorem hold_lt (i j : Int32) : holdC .lt i j = decide (i < j) := rfl
theorem hold_ge (i j : Int32) : holdC .ge i j = decide (j ≤ i) := rfl
theorem hold_gt (i j : Int32) : holdC .gt i j = decide (j < i) := rfl
theorem hold_le (i j : Int32) : holdC .le i j = decide (i ≤ j) := rfl
theorem b2i_0 (q : Bool) : decide (b2i q = 0) = !q := by cases q <;> decide
theorem ti_b (q : Bool) : (if q = true then Term.int 1 else Term.int 0) = Term.int (b2i q) := by cases q <;> rfl
theorem b2i_t : b2i true = 1 := rfl
theorem b2i_f : b2i false = 0 := rfl
theorem ss_b (q : Bool) (A : AS) : (if q = true then (some (some (.int 1), A) : Option (Option V × AS)) else some (some (.int 0), A)) = some (some (.int (b2i q)), A) := by
  cases q <;> rfl
theorem ss_ite {α : Type} (q : Prop) [Decidable q] (a b : α) (A : AS) : (if q then (some (some a, A) : Option (Option α × AS)) else some (some b, A)) = some (some (if q then a else b), A) := by
  split <;> rfl
theorem aix_nI {o n : Nat} {l : List V} (hn : n < 2 ^ 31) (ho : o ≤ n) : aix o l (.int (nI n)) = l[n - o]? := by
  unfold aix
  dsimp only
  rw [nI_clamp hn, if_neg (fun q => q.elim (nI_pos hn) (fun q => by omega))]
theorem vset_nI {A : AS} {k n : Nat} {v : V} (hn : n < 2 ^ 31) (ho : A.of k ≤ n) (hl : n < A.of k + (A.R k).length) : vset A k (.int (nI n)) v = some (apR A k ((A.R k).set (n - A.of k) v)) := by
  unfold vset
  dsimp only
  rw [nI_clamp hn, if_neg (fun q => q.elim (nI_pos hn) (fun q => by omega))]
theorem vsize_nI {A : AS} {k n : Nat} (hn : n < 2 ^ 31) (ho : A.of k ≤ n) (hl : n ≤ A.of k + (A.R k).length) : vsize A k (.int (nI n)) = some (apR A k ((A.R k).take (n - A.of k))) := by
  unfold vsize
  dsimp only
  rw [nI_clamp hn, if_neg (fun q => q.elim (nI_pos hn) (fun q => by omega))]
theorem vadd_ok {A : AS} {k : Nat} {v : V} (h : A.of k + (A.R k).length < ALM) : vadd A k v = some (apR A k (A.R k ++ [v])) := by
  unfold vadd
  rw [if_pos h]
theorem pop_ok {A : AS} {k : Nat} {l : List V} {v : V} (h : A.R k = l ++ [v]) : aPop k L A = some (some v, apR A k l) := by
  unfold aPop
  rw [h]
  simp
end RNS
