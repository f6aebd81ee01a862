/-! X: brackets that are tried -/
/-- running, with what is done behind a return -/
def rvk (r : Option ((Nat × V) × AL × AS)) (K : KT) (R : V → AS → Option (Option V × AS)) : Option (Option V × AS) := match r with
  | none => none
  | some (f, L, A) => if f.1 = 0 then K L A else if f.1 = 1 then R f.2 A else if f.1 = 2 then some (none, A) else none
section RVS
variable {L : AL} {A : AS} {K : KT} {R : V → AS → Option (Option V × AS)}
theorem rvk_zb {α : Type} (r : Option (Option α × AS)) (L : AL) (f : α → AS → Option ((Nat × V) × AL × AS)) : rvk (zb r L f) K R = ab r fun v A => rvk (f v A) K R := by
  match r with
  | none => rfl
  | some (none, A) => rfl
  | some (some v, A) => rfl
theorem rvk_zgo (L : AL) (r : Option AS) : rvk (zgo L r) K R = og r fun A => K L A := by
  cases r with
  | none => rfl
  | some A => rfl
theorem rvk_skip : rvk (zSkip L A) K R = K L A := rfl
theorem rvk_seq (a b : ZX) : rvk (zSeq a b L A) K R = rvk (a L A) (fun L A => rvk (b L A) K R) R := by
  unfold zSeq
  cases a L A with
  | none => rfl
  | some q =>
    obtain ⟨f, L', A'⟩ := q
    dsimp only
    by_cases h : f.1 = 0
    · rw [if_pos h]
      simp only [rvk, if_pos h]
    · rw [if_neg h]
      simp only [rvk, if_neg h]
theorem rvk_ite (q : Prop) [Decidable q] (x y : Option ((Nat × V) × AL × AS)) : rvk (if q then x else y) K R = if q then rvk x K R else rvk y K R := by
  split <;> rfl
theorem rvk_if (c : BX) (a b : ZX) : rvk (zIf c a b L A) K R = ab (c L A) fun q A => if q = true then rvk (a L A) K R else rvk (b L A) K R := by
  unfold zIf
  rw [rvk_zb]
  simp only [rvk_ite]
theorem rvk_set (k : Nat) (a : AX) : rvk (zSet k a L A) K R = ab (a L A) fun v A => K (va_up L k v) A := by
  unfold zSet
  rw [rvk_zb]
  rfl
theorem rvk_ex (a : AX) : rvk (zEx a L A) K R = ab (a L A) fun _ A => K L A := by
  unfold zEx
  rw [rvk_zb]
  rfl
theorem rvk_ret (a : AX) : rvk (zRet a L A) K R = ab (a L A) fun v A => R v A := by
  unfold zRet
  rw [rvk_zb]
  rfl
theorem rvk_putF (k : Nat) (a : AX) : rvk (zPutF k a L A) K R = ab (a L A) fun v A => og (vput A k v) fun A => K L A := by
  unfold zPutF
  rw [rvk_zb]
  simp only [rvk_zgo]
theorem rvk_opF (op : Int32 → Int32 → Int32) (k : Nat) (a : AX) : rvk (zOpF op k a L A) K R = ab (a L A) fun v A' => og ((vbin op (.int (A.1 k)) v).bind (vput A' k)) fun A => K L A := by
  unfold zOpF
  rw [rvk_zb]
  simp only [rvk_zgo]
theorem rvk_add (k : Nat) (a : AX) : rvk (zAdd k a L A) K R = ab (a L A) fun v A => og (vadd A k v) fun A => K L A := by
  unfold zAdd
  rw [rvk_zb]
  simp only [rvk_zgo]
theorem rvk_ab {r : Option ((Nat × V) × AL × AS)} (g : V → AS → Option (Option V × AS)) : ab (rvk r K R) g = rvk r (fun L A => ab (K L A) g) (fun v A => ab (R v A) g) := by
  match r with
  | none => rfl
  | some (f, L, A) =>
    unfold rvk
    dsimp only
    split
    · rfl
    · split
      · rfl
      · split <;> rfl
end RVS
def uhF (A : AS) (r : Option (Option V × AS)) : Option (Option V × AS) := match r with
  | some (none, A2) => some (none, unhA PX A A2)
  | some (some v, A2) => some (some v, A2)
  | none => none
def kBr (A : AS) : KT := fun LV A2 => match vI (LV 1), vI (LV 2), vI (LV 3) with
  | some b, some m, some fr => if emptyR PX A2 = true ∧ intR [0, 1, 2, 10, 11, 12] A2 = true ∧ m = nI A.nn ∧ fr = A.1 18 then some (some (.int 0), bkA PX A A2 (va_up (va_up (va_up A2.1 3 b) 17 (A2.1 17 - 1)) 18 fr)) else none
  | _, _, _ => none
def rBr (A : AS) : V → AS → Option (Option V × AS) := fun v A2 => if isBv v then some (some v, unhA PX A A2) else none
theorem uh_kBr (A : AS) (LV : AL) (A2 : AS) : uhF A (kBr A LV A2) = kBr A LV A2 := by
  unfold kBr
  split
  · split <;> rfl
  · rfl
theorem uh_rBr (A : AS) (v : V) (A2 : AS) : uhF A (rBr A v A2) = rBr A v A2 := by
  unfold rBr
  split <;> rfl
theorem aInBr_eq (z1 : ZX) (A : AS) : aInBr z1 A = uhF A (rvk (z1 (A0of true []) (hideA PX A)) (kBr A) (rBr A)) := by
  unfold aInBr
  cases z1 (A0of true []) (hideA PX A) with
  | none => rfl
  | some q =>
    obtain ⟨⟨f, v⟩, LV, A2⟩ := q
    match f with
    | 0 => exact (uh_kBr A LV A2).symm
    | 1 => exact (uh_rBr A v A2).symm
    | 2 => rfl
    | n + 3 =>
      have e : rvk (some ((n + 3, v), LV, A2)) (kBr A) (rBr A) = none := by
        unfold rvk
        dsimp only
        rw [if_neg (by omega), if_neg (by omega), if_neg (by omega)]
      rw [e]
      dsimp only
      rw [if_neg (by omega), if_neg (by omega), if_neg (by omega)]
      rfl
def hidF (f : FX) : FX := ((f.1.1 + f.1.2.length, []), (f.2.1.1 + f.2.1.2.length, []), (f.2.2.1 + f.2.2.2.length, []))
theorem fS_hid (f : FX) : fS (hidF f) = fS f := by simp [fS, hidF]; omega
section XTR
variable {tk : TK} {ps ps' ps2 : PS} {f f1 f' : FX} {j j1 j' j2 j0 : AS} {m n k k' : Nat} {A A' : AS} {LV : AL} {α : Type} {em : α → V} {fo : FX} {B : Nat}
theorem ctx_uh {r : Option (Option V × AS)} {g : V → AS → Option (Option V × AS)} {q : PR α} (h : CTx false em tk fo j B (ab r g) q) : CTx false em tk fo j B (ab (uhF A r) g) q := by
  match r, h with
  | none, h => exact h
  | some (some v, A2), h => exact h
  | some (none, A2), h =>
    match q, h with
    | none, _ => exact trivial
    | some (.inl (v, ps')), h =>
      obtain ⟨j', e, _⟩ := h
      cases e
    | some (.inr e), h =>
      obtain ⟨A', e1, q1⟩ := h
      have : A' = A2 := by
        have := Option.some.inj e1
        exact (Prod.mk.inj this).2.symm
      subst this
      refine ⟨unhA PX A A', rfl, ?_⟩
      obtain ⟨t1, t2, t3, t4, t5, t6, t7, t8, t9, t10, t11⟩ := q1
      refine ⟨t1, t2, t3, t4, t5, t6, t7, t8, t9, t10, fun k hk => ?_⟩
      show (if k ∈ PX then A.of k else A'.of k) = 0
      rw [if_neg (by simp [PX]; omega)]
      exact t11 k hk
theorem hide_st : hideA PX (stX tk ps f j) = stX tk ps (hidF f) j := by
  unfold hideA stX hidF AS.R AS.of
  refine Prod.ext rfl (Prod.ext (funext fun k => ?_) (Prod.ext (funext fun k => ?_) rfl))
  · by_cases h3 : k = 13
    · subst h3; rfl
    · by_cases h4 : k = 14
      · subst h4; rfl
      · by_cases h5 : k = 15
        · subst h5; rfl
        · simp [h3, h4, h5]
  · by_cases h3 : k = 13
    · subst h3; rfl
    · by_cases h4 : k = 14
      · subst h4; rfl
      · by_cases h5 : k = 15
        · subst h5; rfl
        · simp [h3, h4, h5]
theorem unh_st {l : List V} : unhA PX (stX tk ps f j) (stX tk ps' ((f.1.1 + f.1.2.length, l), (hidF f).2) j') = stX tk ps' ((f.1.1, f.1.2 ++ l), f.2) j' := by
  unfold unhA stX hidF AS.R AS.of
  refine Prod.ext rfl (Prod.ext (funext fun k => ?_) (Prod.ext (funext fun k => ?_) rfl))
  · by_cases h3 : k = 13
    · subst h3; rfl
    · by_cases h4 : k = 14
      · subst h4; simp
      · by_cases h5 : k = 15
        · subst h5; simp
        · simp [h3, h4, h5]
  · by_cases h3 : k = 13
    · subst h3; rfl
    · by_cases h4 : k = 14
      · subst h4; rfl
      · by_cases h5 : k = 15
        · subst h5; rfl
        · simp [h3, h4, h5]
def jnn (j j2 : AS) : AS := (j2.1, j2.R, j2.of, j.nn, j2.fl)
theorem bk_st {o : Nat} (h2 : ps2.2.1 = o + 1) : bkA PX (stX tk ps f j) (stX tk ps2 (hidF f) j2) (va_up (va_up (va_up (stX tk ps2 (hidF f) j2).1 3 (nI ps.1)) 17 ((stX tk ps2 (hidF f) j2).1 17 - 1)) 18 (nI ps.2.2.1)) = stX tk (ps.1, o, ps.2.2.1, ps2.2.2.2) f (jnn j j2) := by
  unfold bkA
  refine Prod.ext (funext fun k => ?_) (Prod.ext (funext fun k => ?_) (Prod.ext (funext fun k => ?_) rfl))
  · unfold va_up
    by_cases h18 : k = 18
    · subst h18; rfl
    · by_cases h17 : k = 17
      · subst h17
        show nI ps2.2.1 - 1 = nI o
        rw [h2, nI_pred]
      · by_cases h3 : k = 3
        · subst h3; rfl
        · simp only [if_neg h18, if_neg h17, if_neg h3]
          simp [stX, h18, h17, h3, jnn]
  · unfold stX hidF jnn AS.R AS.of
    by_cases h3 : k = 13
    · subst h3; rfl
    · by_cases h4 : k = 14
      · subst h4; rfl
      · by_cases h5 : k = 15
        · subst h5; rfl
        · simp [h3, h4, h5]
  · unfold stX hidF jnn AS.R AS.of
    by_cases h3 : k = 13
    · subst h3; rfl
    · by_cases h4 : k = 14
      · subst h4; rfl
      · by_cases h5 : k = 15
        · subst h5; rfl
        · simp [h3, h4, h5]
theorem ints_isI (l : List Int32) : (ints l).all isI = true := by
  simp [ints, isI]
theorem kBr_st (h1 : LV 1 = .int (nI ps.1)) (h2 : LV 2 = .int (nI j.nn)) (h3 : LV 3 = .int (nI ps.2.2.1)) {o : Nat} (ho : ps2.2.1 = o + 1) : kBr (stX tk ps f j) LV (stX tk ps2 (hidF f) j2) = some (some (.int 0), stX tk (ps.1, o, ps.2.2.1, ps2.2.2.2) f (jnn j j2)) := by
  unfold kBr
  rw [h1, h2, h3]
  simp only [vI_i]
  have e : intR [0, 1, 2, 10, 11, 12] (stX tk ps2 (hidF f) j2) = true := by simp only [intR, List.all_cons, List.all_nil, sX_f3, sX_f17, sX_f18, sX_f21, sX_R0, sX_R1, sX_R2, sX_R10, sX_R11, sX_R12, sX_R13, sX_R14, sX_R15, sX_o0, sX_o1, sX_o2, sX_o10, sX_o11, sX_o12, sX_o13, sX_o14, sX_o15, sX_nn, sX_fl, ints_isI, Bool.and_self]
  rw [if_pos ⟨rfl, e, rfl, rfl⟩, bk_st ho]
def PGt (tk : TK) (p : PA TR) : Prop := ∀ ps v ps', p ps = some (.inl (v, ps')) → ps.1 < ps'.1 ∧ ps'.1 ≤ Tn tk ∧ ps'.2 = ps.2
theorem pgt_grT {p : PA TR} : PGt tk (grT tk p) := by
  intro ps v ps' h
  obtain ⟨_, h1, h2, h3⟩ := grT_ok h
  exact ⟨h1, h2, h3⟩
theorem je.wk {W : Bool} (h : je W j j') : je false j j' := ⟨h.1, fun k hk => h.2 k (fun e => by have := hk e; cases this)⟩
theorem je.p21 (h : je false j0 j) (x : Int32) : je false j0 (apF j 21 x) := ⟨h.1, fun k hk => by
  have : k ≠ 21 := fun e => by have := hk e; cases this
  show va_up j.1 21 x k = _
  rw [va_up_ne _ _ this]
  exact h.2 k hk⟩
/-- a pattern: it leaves the name alone -/
theorem ctx_stT {c s t : Nat} {vs : List V} {p : PA TR} {F : TR → PA α} {g : V → AS → Option (Option V × AS)} (hc : CoX true tk c s t vs p) (hg : PGt tk p) (hs : s ≤ 100) (hn : c ≤ n) (hP : PRX tk ps f j (n + 1)) (hj : je false j0 j)
    (h : ∀ v a j', ps.1 < a → a ≤ Tn tk → PRX tk (a, ps.2) f j' (n + 1) → je false j0 j' → j'.1 21 = j.1 21 → j'.nn + 100 * (Tn tk - a) + s ≤ j.nn + 100 * (Tn tk - ps.1) → CTx false em tk fo j0 B (g (tv v) (stX tk (a, ps.2) f j')) (F v (a, ps.2))) : CTx false em tk fo j0 B (ab (aX n t vs (stX tk ps f j)) g) (pb p F ps) := by
  have hS := hP.2.2.2.2.2.2
  have hct := hc n ps f j (j.nn + 100 * (Tn tk - ps.1) - s) hn hP.dn (by omega)
  unfold pb
  cases hp : p ps with
  | none => exact trivial
  | some q =>
    rw [hp] at hct
    match q, hp, hct with
    | .inr e, _, hct =>
      obtain ⟨A', e1, q1, q2, q3, q4, q5⟩ := hct
      rw [e1]
      exact ⟨A', rfl, q1, q2, q3.trans (hj.2 22 (fun h => absurd h (by decide))), q4.trans hj.1, q5⟩
    | .inl (v, ps'), hp, hct =>
      obtain ⟨j', e1, q1, q2⟩ := hct
      obtain ⟨h1, h2, h3⟩ := hg ps v ps' hp
      rw [e1, ab_ok]
      have e : ps' = (ps'.1, ps.2) := Prod.ext rfl h3
      rw [e]
      exact h v ps'.1 j' h1 h2 (hP.at (by omega) h2 q1 (by omega)) (hj.trans q1.wk) (q1.2 21 (fun _ => rfl)) (by omega)
end XTR
