/-! contracts of M over the parser -/
/-- what may differ behind a method of M that returns -/
def jfm (W : Bool) (j j' : AS) : Prop := j'.fl = j.fl ∧ (∀ k, k ≠ 19 → (k = 20 ∨ k = 21 → W = true) → j'.1 k = j.1 k) ∧ j'.R 0 = j.R 0 ∧ j'.R 1 = j.R 1 ∧ j'.R 2 = j.R 2
theorem jfm.rf {W : Bool} (j : AS) : jfm W j j := ⟨rfl, fun _ _ _ => rfl, rfl, rfl, rfl⟩
theorem jfm.trans {W : Bool} {a b c : AS} (h : jfm W a b) (h' : jfm W b c) : jfm W a c := ⟨h'.1.trans h.1, fun k hk hw => (h'.2.1 k hk hw).trans (h.2.1 k hk hw), h'.2.2.1.trans h.2.2.1, h'.2.2.2.1.trans h.2.2.2.1, h'.2.2.2.2.trans h.2.2.2.2⟩
theorem jfm.mk {W : Bool} {a b : AS} (h : jfm W a b) (n : Nat) : jfm W a (mkN b n) := h
theorem jfm.l {W : Bool} {a b c : AS} (h : jfm W a b) (h' : jfm W a c) : jfm W b c := ⟨h'.1.trans h.1.symm, fun k hk hw => (h'.2.1 k hk hw).trans (h.2.1 k hk hw).symm, h'.2.2.1.trans h.2.2.1.symm, h'.2.2.2.1.trans h.2.2.2.1.symm, h'.2.2.2.2.trans h.2.2.2.2.symm⟩
theorem jfm.wk {W : Bool} {a b : AS} (h : jfm W a b) : jfm false a b := ⟨h.1, fun k hk hw => h.2.1 k hk (fun e => by have := hw e; cases this), h.2.2⟩
theorem jfm.p19 {W : Bool} {a b : AS} (h : jfm W a b) (x : Int32) : jfm W a (apF b 19 x) := ⟨h.1, fun k hk hw => by
  show va_up b.1 19 x k = _
  rw [va_up_ne _ _ hk]
  exact h.2.1 k hk hw, h.2.2⟩
theorem jfm.p20 {a b : AS} (h : jfm false a b) (x : Int32) : jfm false a (apF b 20 x) := ⟨h.1, fun k hk hw => by
  have : k ≠ 20 := fun e => by have := hw (Or.inl e); cases this
  show va_up b.1 20 x k = _
  rw [va_up_ne _ _ this]
  exact h.2.1 k hk hw, h.2.2⟩
theorem jfm.p21 {a b : AS} (h : jfm false a b) (x : Int32) : jfm false a (apF b 21 x) := ⟨h.1, fun k hk hw => by
  have : k ≠ 21 := fun e => by have := hw (Or.inr e); cases this
  show va_up b.1 21 x k = _
  rw [va_up_ne _ _ this]
  exact h.2.1 k hk hw, h.2.2⟩
theorem TKM.jfm {W : Bool} {tk : TK} {j j' : AS} (h : TKM tk j) (hj : jfm W j j') : TKM tk j' := by
  obtain ⟨h1, h2, h3, h4, h5⟩ := h
  refine ⟨(hj.2.1 3 (by decide) (by intro e; rcases e with e | e <;> cases e)).trans h1, ?_, ?_, ?_, ?_⟩
  · rw [hj.2.2.1, hj.2.2.2.1, hj.2.2.2.2]; exact h2
  · rw [hj.2.2.1]; exact h3
  · rw [hj.2.2.2.1]; exact h4
  · rw [hj.2.2.2.2, hj.2.1 15 (by decide) (by intro e; rcases e with e | e <;> cases e), hj.2.1 16 (by decide) (by intro e; rcases e with e | e <;> cases e)]; exact h5
def THM (W : Bool) (j : AS) (e : FT) (A : AS) : Prop := A.1 15 = e.1 ∧ A.1 16 = nI e.2.1 ∧ (∀ k, k ≠ 11 → k ≠ 13 → k ≠ 14 → k ≠ 15 → k ≠ 16 → k ≠ 19 → (k = 20 ∨ k = 21 → W = true) → A.1 k = j.1 k) ∧ A.fl = j.fl ∧ A.R 0 = j.R 0 ∧ A.R 1 = j.R 1 ∧ A.R 2 = j.R 2 ∧ A.R 4 = ints (fxm e.2.2.1) ∧ A.R 5 = ints (chm e.2.2.2.1 e.2.2.2.2) ∧ ∀ k, k < 17 → A.of k = 0
def CTm {α : Type} (W : Bool) (em : α → V) (tk : TK) (f : FM) (j : AS) (B : Nat) (r : Option (Option V × AS)) (q : PR α) : Prop := match q with
  | none => True
  | some (.inl (v, ps')) => ∃ j', r = some (some (em v), stM ps' f j') ∧ jfm W j j' ∧ j'.nn + 100 * (Tn tk - ps'.1) ≤ B
  | some (.inr e) => ∃ A', r = some (none, A') ∧ THM W j e A'
def fSm (f : FM) : Nat := f.1.1 + f.1.2.length + f.2.1 + f.2.2.length
def PRM (tk : TK) (ps : PS) (f : FM) (j : AS) (k : Nat) : Prop := tkOK tk ∧ TKM tk j ∧ psOK ps.2.2.2 ∧ ps.1 ≤ Tn tk ∧ ps.2.1 ≤ 32 ∧ ps.2.2.1 + ps.2.2.2.2.1.length + 100 * (Tn tk - ps.1) ≤ 14000 ∧ fSm f + j.nn + 8 * k + 100 * (Tn tk - ps.1) ≤ 29000
def CoM {α : Type} (W : Bool) (em : α → V) (tk : TK) (c s t : Nat) (vs : List V) (p : PA α) : Prop := ∀ k ps f j B, c ≤ k → PRM tk ps f j k → j.nn + 100 * (Tn tk - ps.1) ≤ B + s → CTm W em tk f j B (aM k t vs (stM ps f j)) (p ps)
def CoMD {α : Type} (em : α → V) (tk : TK) (c t : Nat) (vs : List V) (p : PA α) : Prop := ∀ k ps f j B, c ≤ k → PRM tk ps f j k → j.nn + 100 * (Tn tk - ps.1) + 1 ≤ B → CTm false em tk f j B (aM k t vs (stM ps f j)) (p ps)
section CMS
variable {α β : Type} {W : Bool} {em : α → V} {em2 : β → V} {tk : TK} {f f1 f' fo : FM} {j j1 j' j0 : AS} {B B1 : Nat} {r : Option (Option V × AS)} {ps ps' : PS} {m n k k' : Nat}
theorem THM.l {e : FT} {A : AS} (hj : jfm W j j1) (h : THM W j1 e A) : THM W j e A := by
  obtain ⟨q1, q2, q3, q4, q5, q6, q7, q8⟩ := h
  exact ⟨q1, q2, fun k h1 h2 h3 h4 h5 h6 hw => (q3 k h1 h2 h3 h4 h5 h6 hw).trans (hj.2.1 k h6 hw), q4.trans hj.1, q5.trans hj.2.2.1, q6.trans hj.2.2.2.1, q7.trans hj.2.2.2.2, q8⟩
theorem ctm_bind {p : PA α} {F : α → PA β} {g : V → AS → Option (Option V × AS)} (hj : jfm W j j1) (h : CTm W em tk f1 j1 B1 r (p ps))
    (hk : ∀ v ps' j', p ps = some (.inl (v, ps')) → jfm W j j' → j'.nn + 100 * (Tn tk - ps'.1) ≤ B1 → CTm W em2 tk f j B (g (em v) (stM ps' f1 j')) (F v ps')) : CTm W em2 tk f j B (ab r g) (pb p F ps) := by
  unfold pb
  cases hp : p ps with
  | none => exact trivial
  | some q =>
    rw [hp] at h
    match q, hp, h with
    | .inr e, _, h =>
      obtain ⟨A', e1, q1⟩ := h
      subst e1
      exact ⟨A', rfl, q1.l hj⟩
    | .inl (v, ps'), hp, h =>
      obtain ⟨j', e1, q1, q2⟩ := h
      subst e1
      exact hk v ps' j' hp (hj.trans q1) q2
theorem ctm_ret {v : α} (hj : jfm W j j') (hB : j'.nn + 100 * (Tn tk - ps.1) ≤ B) : CTm W em tk f j B (some (some (em v), stM ps f j')) (some (.inl (v, ps))) := ⟨j', rfl, hj, hB⟩
theorem ctm_flt {k : Int32} (hj : jfm W j j1) : CTm W em tk f j B (some (none, ftM (stM ps f1 j1) k)) (pflt k ps) := by
  refine ⟨_, rfl, rfl, rfl, fun k h1 h2 h3 h4 h5 h6 hw => ?_, hj.1, hj.2.2.1, hj.2.2.2.1, hj.2.2.2.2, rfl, rfl, fun k hk => ?_⟩
  · show va_up (va_up (stM ps f1 j1).1 15 _) 16 _ k = _
    rw [va_up_ne _ _ h5, va_up_ne _ _ h4]
    show (if k = 13 then _ else if k = 14 then _ else if k = 11 then _ else j1.1 k) = _
    rw [if_neg h2, if_neg h3, if_neg h1]
    exact hj.2.1 k h6 hw
  · show (if k = 17 then _ else if k = 18 then _ else if k < 17 then 0 else _) = 0
    rw [if_neg (by omega), if_neg (by omega), if_pos hk]
theorem ctm_je {q : PR α} (hj : jfm W j j') (h : CTm W em tk f j' B r q) : CTm W em tk f j B r q := by
  match q, h with
  | none, _ => exact trivial
  | some (.inr e), h =>
    obtain ⟨A', e1, q1⟩ := h
    exact ⟨A', e1, q1.l hj⟩
  | some (.inl (v, ps')), h =>
    obtain ⟨j2, e1, q1, q2⟩ := h
    exact ⟨j2, e1, hj.trans q1, q2⟩
theorem ctm_gT {p : PA α} (h : CTm W em tk f j B r (p ps)) : CTm W em tk f j B r (grT tk p ps) := by
  unfold grT
  cases hp : p ps with
  | none => exact trivial
  | some q =>
    rw [hp] at h
    match q, h with
    | .inr e, h => dsimp only; split <;> first | exact h | exact trivial
    | .inl (v, ps'), h => dsimp only; split <;> first | exact h | exact trivial
theorem ctm_gQ {p : PA α} (h : CTm W em tk f j B r (p ps)) : CTm W em tk f j B r (grQ tk p ps) := by
  unfold grQ
  cases hp : p ps with
  | none => exact trivial
  | some q =>
    rw [hp] at h
    match q, h with
    | .inr e, h => dsimp only; split <;> first | exact h | exact trivial
    | .inl (v, ps'), h => dsimp only; split <;> first | exact h | exact trivial
theorem ctm_gE {p : PA α} (h : CTm W em tk f j B r (p ps)) : CTm W em tk f j B r (grE tk p ps) := by
  unfold grE
  cases hp : p ps with
  | none => exact trivial
  | some q =>
    rw [hp] at h
    match q, h with
    | .inr e, h => exact h
    | .inl (v, ps'), h => dsimp only; split <;> first | exact h | exact trivial
theorem ctm_gD {p : PA α} (h : CTm W em tk f j B r (p ps)) : CTm W em tk f j B r (grD tk p ps) := by
  unfold grD
  cases hp : p ps with
  | none => exact trivial
  | some q =>
    rw [hp] at h
    match q, h with
    | .inr e, h => exact h
    | .inl (v, ps'), h => dsimp only; split <;> first | exact h | exact trivial
theorem ctm_pbT {p : PA α} {F : α → PA β} (h : CTm W em2 tk f j B r (pb p F ps)) : CTm W em2 tk f j B r (pb (grT tk p) F ps) := by
  unfold pb grT at *
  cases hp : p ps with
  | none => exact trivial
  | some q =>
    rw [hp] at h
    match q, h with
    | .inr e, h => dsimp only at h ⊢; by_cases hc : e.2.2 = ps.2.2.2 <;> simp only [hc, if_true, if_false] <;> first | exact h | exact trivial
    | .inl (v, ps'), h => dsimp only at h ⊢; by_cases hc : ps.1 < ps'.1 ∧ ps'.1 ≤ Tn tk ∧ ps'.2 = ps.2 <;> simp only [hc, if_true, if_false] <;> first | exact h | exact trivial
/-- a fact, where the parser goes through -/
theorem ctm_pbE {p : PA α} {F F' : α → PA β} (hF : ∀ v ps', PG tk ps ps' → F' v ps' = F v ps') (hN : ∀ v ps', ¬ PG tk ps ps' → F' v ps' = none) (h : CTm W em2 tk f j B r (pb p F' ps)) : CTm W em2 tk f j B r (pb (grE tk p) F ps) := by
  unfold pb grE at *
  cases hp : p ps with
  | none => exact trivial
  | some q =>
    rw [hp] at h
    match q, h with
    | .inr e, h => exact h
    | .inl (v, ps'), h =>
      dsimp only at h ⊢
      by_cases hg : PG tk ps ps'
      · rw [hF v ps' hg] at h
        simp only [hg, if_true]
        exact h
      · simp only [hg, if_false]
        exact trivial
theorem ctm_pbQ {p : PA α} {F : α → PA β} (h : CTm W em2 tk f j B r (pb p (fun v ps' => if ps.1 ≤ ps'.1 ∧ ps'.1 ≤ Tn tk ∧ ps'.2 = ps.2 then F v ps' else none) ps)) : CTm W em2 tk f j B r (pb (grQ tk p) F ps) := by
  unfold pb grQ at *
  cases hp : p ps with
  | none => exact trivial
  | some q =>
    rw [hp] at h
    match q, h with
    | .inr e, h => dsimp only at h ⊢; by_cases hc : e.2.2 = ps.2.2.2 <;> simp only [hc, if_true, if_false] <;> first | exact h | exact trivial
    | .inl (v, ps'), h => dsimp only at h ⊢; by_cases hc : ps.1 ≤ ps'.1 ∧ ps'.1 ≤ Tn tk ∧ ps'.2 = ps.2 <;> simp only [hc, if_true, if_false] at h ⊢ <;> first | exact h | exact trivial
theorem PRM.at (h : PRM tk ps f j k) {a : Nat} (h1 : ps.1 ≤ a) (h2 : a ≤ Tn tk) (hj : jfm W j j') (hS : fSm f' + j'.nn + 8 * k' + 100 * (Tn tk - a) ≤ 29000) : PRM tk (a, ps.2) f' j' k' := by
  obtain ⟨ht, hT, hps, ha, ho, hfr, _⟩ := h
  exact ⟨ht, hT.jfm hj, hps, h2, ho, by show ps.2.2.1 + ps.2.2.2.2.1.length + 100 * (Tn tk - a) ≤ 14000; omega, hS⟩
theorem PRM.nx (h : PRM tk ps f j k) (hg : PG tk ps ps') (hj : jfm W j j') (hS : fSm f' + j'.nn + 8 * k' + 100 * (Tn tk - ps'.1) ≤ 29000) : PRM tk ps' f' j' k' := by
  obtain ⟨ht, hT, hps, ha, ho, hfr, _⟩ := h
  obtain ⟨h1, h2, h3, h4, h5⟩ := hg
  exact ⟨ht, hT.jfm hj, h5, h2, by rw [h3]; exact ho, by omega, hS⟩
theorem PRM.nxe (h : PRM tk ps f j k) (hg : PGe tk ps ps') (hj : jfm W j j') (hS : fSm f' + j'.nn + 8 * k' + 100 * (Tn tk - ps'.1) ≤ 29000) : PRM tk ps' f' j' k' := by
  obtain ⟨ht, hT, hps, ha, ho, hfr, _⟩ := h
  obtain ⟨h1, h2, h3, h4, h5⟩ := hg
  exact ⟨ht, hT.jfm hj, h5, h2, by rw [h3]; exact ho, by omega, hS⟩
theorem PRM.dn (h : PRM tk ps f j (n + 1)) : PRM tk ps f j n := ⟨h.1, h.2.1, h.2.2.1, h.2.2.2.1, h.2.2.2.2.1, h.2.2.2.2.2.1, by have := h.2.2.2.2.2.2; omega⟩
theorem PRM.one (h : PRM tk ps f j k) (hlt : ps.1 < Tn tk) : PRM tk (ps.1 + 1, ps.2) f j k := h.at (W := true) (Nat.le_succ _) hlt (jfm.rf j) (by have := h.2.2.2.2.2.2; omega)
theorem PRM.op (h : PRM tk ps f j k) (ho : ps.2.1 < 32) (hlt : ps.1 < Tn tk) : PRM tk (ps.1 + 1, ps.2.1 + 1, ps.2.2) f j k := by
  obtain ⟨ht, hT, hps, ha, _, hfr, hS⟩ := h
  exact ⟨ht, hT, hps, hlt, by show ps.2.1 + 1 ≤ 32; omega, by show ps.2.2.1 + ps.2.2.2.2.1.length + 100 * (Tn tk - (ps.1 + 1)) ≤ 14000; omega, by show fSm f + j.nn + 8 * k + 100 * (Tn tk - (ps.1 + 1)) ≤ 29000; omega⟩
theorem PRM.mkf (h : PRM tk ps f j k) (hj : jfm W j j') (hS : fSm f' + j'.nn + 8 * k' + 100 * (Tn tk - ps.1) ≤ 29000) : PRM tk ps f' j' k' := ⟨h.1, h.2.1.jfm hj, h.2.2.1, h.2.2.2.1, h.2.2.2.2.1, h.2.2.2.2.2.1, hS⟩
theorem ctm_need {s : Int32} {F : PA β} {g : V → AS → Option (Option V × AS)} (hm : 3 ≤ m) (hP : PRM tk ps f j k) (hj : jfm W j0 j) (h : ps.1 < Tn tk → CTm W em2 tk fo j0 B (g (.int 0) (stM (ps.1 + 1, ps.2) f j)) (F (ps.1 + 1, ps.2))) : CTm W em2 tk fo j0 B (ab (aM m 33 [.int s] (stM ps f j)) g) (pNeed tk s F ps) := by
  rw [m_need hm hP.1 hP.2.1 hP.2.2.2.1]
  unfold pNeed
  cases hc : sg tk ps.1 s with
  | true =>
    simp only [A0of, va_up, List.length_nil, List.length_cons, List.getD_cons_zero, List.getD_cons_succ, List.getD_nil, if_true, if_false, Bool.not_not, Bool.not_true, Bool.not_false, Bool.false_eq_true, reduceIte, Nat.reduceSub, Nat.reduceAdd, Nat.reduceEqDiff, ab_ok]
    exact h (sg_lt hc)
  | false =>
    simp only [A0of, va_up, List.length_nil, List.length_cons, List.getD_cons_zero, List.getD_cons_succ, List.getD_nil, if_true, if_false, Bool.not_not, Bool.not_true, Bool.not_false, Bool.false_eq_true, reduceIte, Nat.reduceSub, Nat.reduceAdd, Nat.reduceEqDiff, ab_no]
    exact ctm_flt hj
theorem ctm_enter {F : PA α} {g : V → AS → Option (Option V × AS)} (hm : 2 ≤ m) (hP : PRM tk ps f j k) (hj : jfm W j0 j) (h : ps.2.1 < 32 → CTm W em tk fo j0 B (g (.int 0) (stM (ps.1, ps.2.1 + 1, ps.2.2) f j)) (F (ps.1, ps.2.1 + 1, ps.2.2))) : CTm W em tk fo j0 B (ab (aM m 15 [] (stM ps f j)) g) (pEnter F ps) := by
  rw [m_enter hm hP.2.2.2.2.1]
  unfold pEnter
  by_cases hc : ps.2.1 < 32
  · simp only [hc, if_true, ab_ok]
    exact h hc
  · simp only [hc, if_false, ab_no]
    exact ctm_flt hj
theorem ctm_adv {F : PA α} (h : ps.1 < Tn tk → CTm W em tk fo j0 B r (F (ps.1 + 1, ps.2))) : CTm W em tk fo j0 B r (pAdv tk F ps) := by
  unfold pAdv
  by_cases hc : ps.1 < Tn tk
  · simp only [hc, if_true]
    exact h hc
  · simp only [hc, if_false]
    exact trivial
theorem ctm_st {c s t : Nat} {vs : List V} {p : PA α} {F : α → PA β} {g : V → AS → Option (Option V × AS)} (hc : CoM W em tk c s t vs p) (hg : PGg tk p) (hs : s ≤ 100) (hn : c ≤ n) (hP : PRM tk ps f j (n + 1)) (hj : jfm W j0 j)
    (h : ∀ v ps' j', PG tk ps ps' → PRM tk ps' f j' (n + 1) → jfm W j0 j' → j'.nn + 100 * (Tn tk - ps'.1) + s ≤ j.nn + 100 * (Tn tk - ps.1) → CTm W em2 tk fo j0 B (g (em v) (stM ps' f j')) (F v ps')) : CTm W em2 tk fo j0 B (ab (aM n t vs (stM ps f j)) g) (pb p F ps) := by
  have hS := hP.2.2.2.2.2.2
  refine ctm_bind (B1 := j.nn + 100 * (Tn tk - ps.1) - s) hj (hc n ps f j _ hn hP.dn (by omega)) fun v ps' j' hp hj' hB => ?_
  have hpg := hg ps v ps' hP.2.2.1 hp
  obtain ⟨h1, h2, h3, h4, h5⟩ := id hpg
  exact h v ps' j' hpg (hP.nx hpg (hj.l hj') (by omega)) hj' (by omega)
theorem ctm_ste {c t : Nat} {vs : List V} {p : PA α} {F : α → PA β} {g : V → AS → Option (Option V × AS)} (hc : CoM W em tk c 0 t vs p) (hg : PGh tk p) (hn : c ≤ n) (hP : PRM tk ps f j (n + 1)) (hj : jfm W j0 j)
    (h : ∀ v ps' j', PGe tk ps ps' → PRM tk ps' f j' (n + 1) → jfm W j0 j' → j'.nn + 100 * (Tn tk - ps'.1) ≤ j.nn + 100 * (Tn tk - ps.1) → CTm W em2 tk fo j0 B (g (em v) (stM ps' f j')) (F v ps')) : CTm W em2 tk fo j0 B (ab (aM n t vs (stM ps f j)) g) (pb p F ps) := by
  refine ctm_bind (B1 := j.nn + 100 * (Tn tk - ps.1)) hj (hc n ps f j _ hn hP.dn (by omega)) fun v ps' j' hp hj' hB => ?_
  have hpg := hg ps v ps' hP.2.2.1 hp
  have hS := hP.2.2.2.2.2.2
  exact h v ps' j' hpg (hP.nxe hpg (hj.l hj') (by omega)) hj' hB
theorem ctm_std {c t : Nat} {vs : List V} {p : PA α} {F : α → PA β} {g : V → AS → Option (Option V × AS)} (hc : CoMD em tk c t vs p) (hg : PGh tk p) (hn : c ≤ n) (hP : PRM tk ps f j (n + 1)) (hR : fSm f + j.nn + 8 * (n + 1) + 100 * (Tn tk - ps.1) + 1 ≤ 29000) (hj : jfm false j0 j)
    (h : ∀ v ps' j', PGe tk ps ps' → PRM tk ps' f j' (n + 1) → jfm false j0 j' → j'.nn + 100 * (Tn tk - ps'.1) ≤ j.nn + 100 * (Tn tk - ps.1) + 1 → CTm false em2 tk fo j0 B (g (em v) (stM ps' f j')) (F v ps')) : CTm false em2 tk fo j0 B (ab (aM n t vs (stM ps f j)) g) (pb p F ps) := by
  refine ctm_bind (B1 := j.nn + 100 * (Tn tk - ps.1) + 1) hj (hc n ps f j _ hn hP.dn (Nat.le_refl _)) fun v ps' j' hp hj' hB => ?_
  have hpg := hg ps v ps' hP.2.2.1 hp
  exact h v ps' j' hpg (hP.nxe hpg (hj.l hj') (by omega)) hj' hB
theorem ctm_tl {c s t : Nat} {vs : List V} {p : PA α} (hc : CoM W em tk c s t vs p) (hn : c ≤ n) (hP : PRM tk ps f j (n + 1)) (hj : jfm W j0 j) (hB : j.nn + 100 * (Tn tk - ps.1) ≤ B + s) : CTm W em tk f j0 B (aM n t vs (stM ps f j)) (p ps) := ctm_je hj (hc n ps f j B hn hP.dn hB)
theorem fSm_push {o : Nat} {l l' : List V} {g : Nat × List V} : fSm ((o, l ++ l'), g) = fSm ((o, l), g) + l'.length := by
  simp [fSm]
  omega
/-- an item is read and laid down -/
def BodyD (W : Bool) (tk : TK) (n o : Nat) (base : List V) (g : Nat × List V) (p : PA TR) (Inv : AL → Prop) (sl : Nat) (body : ZX) : Prop :=
  ∀ (α : Type) (em : α → V) (fo : FM) (F : TR → PA α) (don : List TR) (ps : PS) (j j0 : AS) (LV : AL) (K B0 C0 : KT) (B : Nat),
    PRM tk ps ((o, base ++ don.map tv), g) j (n + 1) → jfm W j0 j → Inv LV →
    (∀ t ps' j' LV', PG tk ps ps' → jfm W j0 j' → j'.nn + 100 * (Tn tk - ps'.1) + sl ≤ j.nn + 100 * (Tn tk - ps.1) → Inv LV' →
      CTm W em tk fo j0 B (K LV' (stM ps' ((o, base ++ (don ++ [t]).map tv), g) j')) (F t ps')) →
    CTm W em tk fo j0 B (rn (body LV (stM ps ((o, base ++ don.map tv), g) j)) K B0 C0) (pb p F ps)
theorem m_eatB (hn : 2 ≤ n) (hP : PRM tk ps f j k) (s : Int32) (L : AL) : bZ .ne (aCall (aM n) 9 [(aK s)]) L (stM ps f j) = some (some (sg tk ps.1 s), stM (if sg tk ps.1 s = true then (ps.1 + 1, ps.2) else ps) f j) := by
  have e := m_eat (m := n) (f := f) hn hP.1 hP.2.1 hP.2.2.2.1 s
  unfold bZ
  rw [aCall_1, aK_e, ab_ok, e, ab_ok]
  cases sg tk ps.1 s <;> rfl
theorem m_more {o : Nat} {base : List V} {g : Nat × List V} {s : Int32} {p : PA TR} {Inv : AL → Prop} {sl : Nat} {body : ZX} (hn : 2 ≤ n) (hsl : sl ≤ 100) (hs0 : 1 ≤ sl) (hb : BodyD W tk n o base g p Inv sl body) (N : Nat) :
    ∀ (M : Nat) (don : List TR) (ps : PS) (j j0 : AS) (LV : AL) (K B0 C0 : KT) (B1 B : Nat) (F : List TR → PA α), M ≤ N → PRM tk ps ((o, base ++ don.map tv), g) j (n + 1) → jfm W j0 j → Inv LV → j.nn + 100 * (Tn tk - ps.1) ≤ B1 →
    (∀ ts ps' j' LV', PG tk ps ps' → 1 ≤ ts.length → jfm W j0 j' → j'.nn + 100 * (Tn tk - ps'.1) + sl * ts.length ≤ B1 → fSm ((o, base ++ (don ++ ts).map tv), g) + j'.nn + 8 * (n + 1) + 100 * (Tn tk - ps'.1) ≤ 29000 → Inv LV' → CTm W em tk fo j0 B (K LV' (stM ps' ((o, base ++ (don ++ ts).map tv), g) j')) (F ts ps')) →
    CTm W em tk fo j0 B (rn (zDo N body (bZ .ne (aCall (aM n) 9 [(aK s)])) LV (stM ps ((o, base ++ don.map tv), g) j)) K B0 C0) (pb (pMore tk s p M) F ps) := by
  induction N with
  | zero =>
    intro M don ps j j0 LV K B0 C0 B1 B F hM
    have : M = 0 := by omega
    subst this
    intros
    exact trivial
  | succ N ih =>
    intro M don ps j j0 LV K B0 C0 B1 B F hM hP hj hI hB hK
    cases M with
    | zero => exact trivial
    | succ M =>
      have hS := hP.2.2.2.2.2.2
      rw [rn_do, show pMore tk s p (M + 1) = pb p fun t ps' => if sg tk ps'.1 s = true then pb (pMore tk s p M) (fun l => pret (t :: l)) (ps'.1 + 1, ps'.2) else some (.inl ([t], ps')) from rfl, pb_pb]
      refine hb α em fo _ don ps j j0 LV _ _ _ B hP hj hI fun t ps' j' LV' q1 q2 q3 q4 => ?_
      have hl : fSm ((o, base ++ (don ++ [t]).map tv), g) = fSm ((o, base ++ don.map tv), g) + 1 := by simp [fSm]; omega
      have hP1 : PRM tk ps' ((o, base ++ (don ++ [t]).map tv), g) j' (n + 1) := hP.nx q1 (hj.l q2) (by rw [hl]; omega)
      rw [m_eatB hn hP1, ab_ok]
      cases hc : sg tk ps'.1 s with
      | true =>
        have hlt : ps'.1 < Tn tk := sg_lt hc
        rw [pb_at (p' := pb (pMore tk s p M) fun l => pret (t :: l)) (ps' := (ps'.1 + 1, ps'.2)) (by simp only [hc, if_true]), pb_pb, if_pos rfl, if_pos rfl]
        refine ih M (don ++ [t]) (ps'.1 + 1, ps'.2) j' j0 LV' K B0 C0 (B1 - sl) B _ (by omega) (hP1.one hlt) q2 q4 (by dsimp only; omega) fun ts ps'' j'' LV'' r1 r2 r3 r4 r5 r6 => ?_
        have := hK (t :: ts) ps'' j'' LV'' (PG.trans (PGe.trans q1.e (PG.one q1.2.2.2.2 hlt).e) r1) (by simp) r3 (by rw [List.length_cons, Nat.mul_add, Nat.mul_one]; omega) (by simpa using r5) r6
        simpa [pret_pb] using this
      | false =>
        rw [pb_val (v := [t]) (ps' := ps') (by simp only [hc, Bool.false_eq_true, if_false]), if_neg (by decide), if_neg (by decide)]
        exact hK [t] ps' j' LV' q1 (by simp) q2 (by simp; omega) (by rw [hl]; omega) q4
theorem m_seps {o : Nat} {base : List V} {g : Nat × List V} {s : Int32} {p : PA TR} {Inv : AL → Prop} {sl : Nat} {body : ZX} (hn : 2 ≤ n) (hsl : sl ≤ 100) (hs0 : 1 ≤ sl) (hb : BodyD W tk n o base g p Inv sl body) (N : Nat) :
    ∀ (M : Nat) (don : List TR) (ps : PS) (j j0 : AS) (LV : AL) (K B0 C0 : KT) (B1 B : Nat) (F : TR → List TR → PA α), M + 1 ≤ N → PRM tk ps ((o, base ++ don.map tv), g) j (n + 1) → jfm W j0 j → Inv LV → j.nn + 100 * (Tn tk - ps.1) ≤ B1 →
    (∀ t ts ps' j' LV', PG tk ps ps' → jfm W j0 j' → j'.nn + 100 * (Tn tk - ps'.1) + sl * (ts.length + 1) ≤ B1 → fSm ((o, base ++ (don ++ t :: ts).map tv), g) + j'.nn + 8 * (n + 1) + 100 * (Tn tk - ps'.1) ≤ 29000 → Inv LV' → sg tk ps'.1 s = false → CTm W em tk fo j0 B (K LV' (stM ps' ((o, base ++ (don ++ t :: ts).map tv), g) j')) (F t ts ps')) →
    CTm W em tk fo j0 B (rn (zDo N body (bZ .ne (aCall (aM n) 9 [(aK s)])) LV (stM ps ((o, base ++ don.map tv), g) j)) K B0 C0) (pb p (fun t => pb (pSeps tk s p M) fun ts => F t ts) ps) := by
  induction N with
  | zero =>
    intro M don ps j j0 LV K B0 C0 B1 B F hM
    omega
  | succ N ih =>
    intro M don ps j j0 LV K B0 C0 B1 B F hM hP hj hI hB hK
    have hS := hP.2.2.2.2.2.2
    rw [rn_do]
    refine hb α em fo _ don ps j j0 LV _ _ _ B hP hj hI fun t ps' j' LV' q1 q2 q3 q4 => ?_
    have hl : fSm ((o, base ++ (don ++ [t]).map tv), g) = fSm ((o, base ++ don.map tv), g) + 1 := by simp [fSm]; omega
    have hP1 : PRM tk ps' ((o, base ++ (don ++ [t]).map tv), g) j' (n + 1) := hP.nx q1 (hj.l q2) (by rw [hl]; omega)
    rw [m_eatB hn hP1, ab_ok]
    cases M with
    | zero => exact trivial
    | succ M =>
      cases hc : sg tk ps'.1 s with
      | true =>
        have hlt : ps'.1 < Tn tk := sg_lt hc
        rw [pb_at (p' := pb p fun t => pb (pSeps tk s p M) fun ts => pret (t :: ts)) (ps' := (ps'.1 + 1, ps'.2)) (by simp only [pSeps, hc, if_true]), pb_pb, if_pos rfl, if_pos rfl]
        have e : ∀ u, pb (pb (pSeps tk s p M) fun ts => pret (u :: ts)) (fun ts => F t ts) = pb (pSeps tk s p M) fun ts => F t (u :: ts) := by
          intro u
          rw [pb_pb]
          rfl
        simp only [e]
        refine ih M (don ++ [t]) (ps'.1 + 1, ps'.2) j' j0 LV' K B0 C0 (B1 - sl) B (fun u ts => F t (u :: ts)) (by omega) (hP1.one hlt) q2 q4 (by dsimp only; omega) fun u ts ps'' j'' LV'' r1 r3 r4 r5 r6 r7 => ?_
        have := hK t (u :: ts) ps'' j'' LV'' (PG.trans (PGe.trans q1.e (PG.one q1.2.2.2.2 hlt).e) r1) r3 (by rw [List.length_cons, Nat.mul_add, Nat.mul_one]; omega) (by simpa using r5) r6 r7
        simpa using this
      | false =>
        rw [pb_val (v := []) (ps' := ps') (by simp only [pSeps, hc, Bool.false_eq_true, if_false]), if_neg (by decide), if_neg (by decide)]
        exact hK t [] ps' j' LV' q1 q2 (by simp; omega) (by rw [show don ++ t :: [] = don ++ [t] from rfl, hl]; omega) q4 hc
/-- a loop that asks first -/
theorem m_sepsW {o : Nat} {base : List V} {g : Nat × List V} {s : Int32} {p : PA TR} {Inv : AL → Prop} {sl : Nat} {body : ZX} (hn : 2 ≤ n) (hsl : sl ≤ 100) (hb : BodyD W tk n o base g p Inv sl body) (N : Nat) :
    ∀ (M : Nat) (don : List TR) (ps : PS) (j j0 : AS) (LV : AL) (K B0 C0 : KT) (B1 B : Nat) (F : List TR → PA α), M ≤ N → PRM tk ps ((o, base ++ don.map tv), g) j (n + 1) → jfm W j0 j → Inv LV → j.nn + 100 * (Tn tk - ps.1) ≤ B1 →
    (∀ ts ps' j' LV', PGe tk ps ps' → jfm W j0 j' → j'.nn + 100 * (Tn tk - ps'.1) + (sl + 50) * ts.length ≤ B1 → fSm ((o, base ++ (don ++ ts).map tv), g) + j'.nn + 8 * (n + 1) + 100 * (Tn tk - ps'.1) ≤ 29000 → Inv LV' → CTm W em tk fo j0 B (K LV' (stM ps' ((o, base ++ (don ++ ts).map tv), g) j')) (F ts ps')) →
    CTm W em tk fo j0 B (rn (zWh (N + 1) (bZ .ne (aCall (aM n) 9 [(aK s)])) body zSkip LV (stM ps ((o, base ++ don.map tv), g) j)) K B0 C0) (pb (pSeps tk s p M) F ps) := by
  induction N with
  | zero =>
    intro M don ps j j0 LV K B0 C0 B1 B F hM
    have : M = 0 := by omega
    subst this
    intros
    exact trivial
  | succ N ih =>
    intro M don ps j j0 LV K B0 C0 B1 B F hM hP hj hI hB hK
    cases M with
    | zero => exact trivial
    | succ M =>
      have hS := hP.2.2.2.2.2.2
      rw [rn_wh, m_eatB hn hP, ab_ok]
      cases hc : sg tk ps.1 s with
      | false =>
        rw [pb_val (v := []) (ps' := ps) (by simp only [pSeps, hc, Bool.false_eq_true, if_false]), if_neg (by decide), if_neg (by decide)]
        have := hK [] ps j LV (PGe.rf hP.2.2.1 hP.2.2.2.1) hj (by simpa using hB) (by simpa using hS) hI
        simpa using this
      | true =>
        have hlt : ps.1 < Tn tk := sg_lt hc
        rw [pb_at (p' := pb p fun t => pb (pSeps tk s p M) fun ts => pret (t :: ts)) (ps' := (ps.1 + 1, ps.2)) (by simp only [pSeps, hc, if_true]), pb_pb, if_pos rfl, if_pos rfl]
        refine hb α em fo _ don (ps.1 + 1, ps.2) j j0 LV _ _ _ B (hP.one hlt) hj hI fun t ps' j' LV' q1 q2 q3 q4 => ?_
        dsimp only at q3
        have hl : fSm ((o, base ++ (don ++ [t]).map tv), g) = fSm ((o, base ++ don.map tv), g) + 1 := by simp [fSm]; omega
        rw [pb_pb, rn_skip]
        have q1' := PG.trans (PG.one hP.2.2.1 hlt).e q1
        refine ih M (don ++ [t]) ps' j' j0 LV' K B0 C0 (B1 - (sl + 50)) B _ (by omega) (hP.nx q1' (hj.l q2) (by rw [hl]; omega)) q2 q4 (by omega) fun ts ps'' j'' LV'' r1 r3 r4 r5 r6 => ?_
        have := hK (t :: ts) ps'' j'' LV'' (PGe.trans q1'.e r1) r3 (by rw [List.length_cons, Nat.mul_add, Nat.mul_one]; omega) (by simpa using r5) r6
        simpa [pret_pb] using this
end CMS
