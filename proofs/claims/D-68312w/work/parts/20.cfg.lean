/-! what the tables of constants say -/
def FLP (jc : JC) (e : Nat × Nat × Nat) : Prop := (e.2.1 = 0 → e.2.2 < NF ∧ Cond.fieldLink jc.1 e.1 (jc.2.1 e.2.2).1 (jc.2.1 e.2.2).2.1 (jc.2.1 e.2.2).2.2.1 ∈ lw_all) ∧ (e.2.1 = 1 → e.1 = jc.2.2.2.2.2.1) ∧ (e.2.1 = 2 → e.1 = jc.2.2.2.2.2.2)
def MTP (jc : JC) (e : Nat × MF) : Prop := MIw jc.1 e.2.1 e.2.2.1 e.2.2.2.1 e.2.2.2.2.1 e.2.2.2.2.2.2
def MLP (jc : JC) (mi : Nat → Option MF) (e : Nat × Nat × Nat × Nat × Bool) : Prop := (e.2.1 = 0 → ∃ y ws maxL, mi e.2.2.1 = some (y, ws, maxL, e.2.2.2.1, e.2.2.2.2, true) ∧ Cond.methodLink jc.1 e.1 y ∈ lw_all)
def SLP (jc : JC) (mi : Nat → Option MF) (e : Nat × Nat × Nat × Bool) : Prop := ∃ y ws maxL, mi e.2.1 = some (y, ws, maxL, e.2.2.1, e.2.2.2, false) ∧ Cond.methodLink jc.1 e.1 y ∈ lw_all
theorem selT_lt {P : Nat → Prop} {dfl nb : Nat} {lo hi : Int} {tbl : List Nat} (hd : dfl < nb) (ht : tbl.all (fun i => Nat.blt i nb) = true) (hP : ∀ i, i < nb → P i) (v : Int32) : P (selT dfl lo hi tbl v) := by
  unfold selT
  split
  · exact hP _ hd
  · refine hP _ ?_
    rw [List.getD]
    cases h : tbl[(v.toInt - lo).toNat]? with
    | none => exact hd
    | some x => exact Nat.blt_eq.mp (List.all_eq_true.mp ht x (List.mem_of_getElem? h))
theorem selL_lt {P : Nat → Prop} {dfl nb : Nat} (hd : dfl < nb) (hP : ∀ i, i < nb → P i) (v : Int32) : ∀ {tbl : List (Int × Nat)}, tbl.all (fun i => Nat.blt i.2 nb) = true → P (selL dfl tbl v) := by
  intro tbl
  induction tbl with
  | nil => intro _; exact hP _ hd
  | cons a t ih =>
    intro ht
    obtain ⟨k, i⟩ := a
    simp only [List.all_cons, Bool.and_eq_true] at ht
    unfold selL
    split
    · exact hP _ (Nat.blt_eq.mp ht.1)
    · exact ih ht.2
theorem stp_ok_skip : ∀ L σ fl L' σ', sSkip L σ = some (fl, L', σ') → fl.1 ≠ 3 ∧ fl.1 ≠ 4 := by
  intro L σ fl L' σ' h
  have h := Option.some.inj h
  have h : (0, 0) = fl := congrArg Prod.fst h
  subst h
  exact ⟨by decide, by decide⟩
theorem stp_ok_inc {k : Nat} {d : Int32} : ∀ L σ fl L' σ', sInc k d L σ = some (fl, L', σ') → fl.1 ≠ 3 ∧ fl.1 ≠ 4 := by
  intro L σ fl L' σ' h
  have h := Option.some.inj h
  have h : (0, 0) = fl := congrArg Prod.fst h
  subst h
  exact ⟨by decide, by decide⟩
theorem stp_ok_set {k : Nat} {a : EX} : ∀ L σ fl L' σ', sSet k a L σ = some (fl, L', σ') → fl.1 ≠ 3 ∧ fl.1 ≠ 4 := by
  intro L σ fl L' σ' h
  unfold sSet at h
  match ha : a L σ, h with
  | some (none, L1, σ1), h =>
    have h := Option.some.inj h
    have h : (2, 0) = fl := congrArg Prod.fst h
    subst h
    exact ⟨by decide, by decide⟩
  | some (some v, L1, σ1), h =>
    have h := Option.some.inj h
    have h : (0, 0) = fl := congrArg Prod.fst h
    subst h
    exact ⟨by decide, by decide⟩
theorem f_FI {cf : CF} {rec : RC} {tb : TB} {G : Nat → LL → List AV → SS → Prop} {Ret : Option Int32 → SS → Prop} {Rt : SS → Prop} {hs : Nat → Option Nat} {h : Option Nat} {d p n k : Nat} {D D1 D2 D3 D4 D5 D6 : List Nat} (hG : GOK cf rec tb G Ret (ThJ G hs Rt)) (h0 : alook tb p = some (.aload_n 0, 1, D)) (h1 : alook tb (p + 1) = some (.dup, 1, D1)) (h2 : alook tb (p + 2) = some (.getfield n, 3, D2)) (h3 : alook tb (p + 5) = some (.dup_x1, 1, D3)) (h4 : alook tb (p + 6) = some (.iconst 1, 1, D4)) (h5 : alook tb (p + 7) = some (.iadd, 1, D5)) (h6 : alook tb (p + 8) = some (.putfield n, 3, D6)) (hn : cf.2.1 n = some (0, k)) (hk : cf.1 k = 0) : EF G Rt h d p (p + 11) (eFI k 1) := by
  intro L st σ hd hw
  refine g_this hG h0 (hG _ _ _ _ h1 L _ σ (g_fi hG h2 hn (by omega) (hG _ _ _ _ h3 L _ σ (hG _ _ _ _ h4 L _ σ (hG _ _ _ _ h5 L _ σ (hG _ _ _ _ h6 L _ σ ?_))))))
  simp only [awp, hn]
  rw [if_pos (Or.inl hk)]
  exact hw
theorem f_gt {G : Nat → LL → List AV → SS → Prop} {Rt : SS → Prop} {h : Option Nat} {d p m q : Nat} {a : EX} (ha : EF G Rt h d p m a) (hg : ∀ L st σ, G q L st σ → G m L st σ) : EF G Rt h d p q a := fun L st σ hd hw => ha L st σ hd (wpE.imp hw fun _ _ _ hk => hg _ _ _ hk)
theorem g_as1 {cf : CF} {rec : RC} {tb : TB} {G : Nat → LL → List AV → SS → Prop} {Ret : Option Int32 → SS → Prop} {Rt : SS → Prop} {hs : Nat → Option Nat} {p : Nat} {k : Fin 4} {D : List Nat} (hG : GOK cf rec tb G Ret (ThJ G hs Rt)) (ha : alook tb p = some (.astore_n k, 1, D)) : ∀ L σ, G (p + 1) L [] σ → G p L [.inr (0, 0)] σ := fun L σ hk => hG p _ _ _ ha L _ σ hk
theorem g_as2 {cf : CF} {rec : RC} {tb : TB} {G : Nat → LL → List AV → SS → Prop} {Ret : Option Int32 → SS → Prop} {Rt : SS → Prop} {hs : Nat → Option Nat} {p k : Nat} {D : List Nat} (hG : GOK cf rec tb G Ret (ThJ G hs Rt)) (ha : alook tb p = some (.astore k, 2, D)) : ∀ L σ, G (p + 2) L [] σ → G p L [.inr (0, 0)] σ := fun L σ hk => hG p _ _ _ ha L _ σ hk
