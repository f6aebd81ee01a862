/-! conditions and statements and their code -/
def ngC : ClassFile.Cond → ClassFile.Cond
  | .eq => .ne | .ne => .eq | .lt => .ge | .ge => .lt | .gt => .le | .le => .gt
theorem holdC_ng (cd : ClassFile.Cond) (x y : Int32) : holdC (ngC cd) x y = !holdC cd x y := by
  have h1 : ∀ a b : Int32, decide (b ≤ a) = !decide (a < b) := fun a b => by
    by_cases h : a < b
    · have : ¬ b ≤ a := Int32.not_le.mpr h
      simp [h, this]
    · have : b ≤ a := Int32.not_lt.mp h
      simp [h, this]
  have h2 : ∀ a b : Int32, decide (a < b) = !decide (b ≤ a) := fun a b => by rw [h1]; simp
  cases cd
  · simp [holdC, ngC]
  · simp [holdC, ngC]
  · exact h1 x y
  · exact h2 x y
  · exact h1 y x
  · exact h2 y x
section FS
variable {cf : CF} {rec : RC} {tb : TB} {G : Nat → LL → List AV → SS → Prop} {Ret : Option Int32 → SS → Prop} {Rt : SS → Prop} {hs : Nat → Option Nat} {h : Option Nat} {rt : Bool} {bk ct d p m q t f n k z n2 : Nat} {a b i : EX} {c c1 c2 : CX} {s s1 s2 : SX} {D D1 D2 D3 D4 : List Nat}
theorem k_cmpF (hG : GOK cf rec tb G Ret (ThJ G hs Rt)) {cd cd' : ClassFile.Cond} {off : Int} (ha : EF G Rt h d p m a) (hb : EF G Rt h (d + 1) m q b) (hi : alook tb q = some (.if_icmp cd' off, 3, D)) (hc : cd' = ngC cd) (hj : jm q off = f) : CE G Rt h d p (q + 3) f (cCmp cd a b) := by
  subst hc; subst hj
  intro L st σ hd hw
  refine ha L st σ hd ((wpE_bnd hw).imp fun x L1 σ1 hw => ?_)
  refine hb L1 (.inl x :: st) σ1 (by simp [hd]) ((wpE_bnd hw).imp fun y L2 σ2 hw => hG q _ _ _ hi L2 _ σ2 ?_)
  simp only [awp, holdC_ng]
  cases hh : holdC cd x y
  · have hw : G (if holdC cd x y = true then q + 3 else jm q off) L2 st σ2 := hw
    rw [hh] at hw
    exact hw
  · have hw : G (if holdC cd x y = true then q + 3 else jm q off) L2 st σ2 := hw
    rw [hh] at hw
    exact hw
theorem k_cmpT (hG : GOK cf rec tb G Ret (ThJ G hs Rt)) {cd : ClassFile.Cond} {off : Int} (ha : EF G Rt h d p m a) (hb : EF G Rt h (d + 1) m q b) (hi : alook tb q = some (.if_icmp cd off, 3, D)) (hj : jm q off = t) : CE G Rt h d p t (q + 3) (cCmp cd a b) := by
  subst hj
  intro L st σ hd hw
  refine ha L st σ hd ((wpE_bnd hw).imp fun x L1 σ1 hw => ?_)
  refine hb L1 (.inl x :: st) σ1 (by simp [hd]) ((wpE_bnd hw).imp fun y L2 σ2 hw => hG q _ _ _ hi L2 _ σ2 ?_)
  simp only [awp]
  have hw : G (if holdC cd x y = true then jm q off else q + 3) L2 st σ2 := hw
  cases hh : holdC cd x y
  · rw [hh] at hw
    exact hw
  · rw [hh] at hw
    exact hw
theorem k_zF (hG : GOK cf rec tb G Ret (ThJ G hs Rt)) {cd cd' : ClassFile.Cond} {off : Int} (ha : EF G Rt h d p q a) (hi : alook tb q = some (.ifCond cd' off, 3, D)) (hc : cd' = ngC cd) (hj : jm q off = f) : CE G Rt h d p (q + 3) f (cZ cd a) := by
  subst hc; subst hj
  intro L st σ hd hw
  refine ha L st σ hd ((wpE_bnd hw).imp fun x L1 σ1 hw => hG q _ _ _ hi L1 _ σ1 ?_)
  simp only [awp, holdC_ng]
  have hw : G (if holdC cd x 0 = true then q + 3 else jm q off) L1 st σ1 := hw
  cases hh : holdC cd x 0
  · rw [hh] at hw
    exact hw
  · rw [hh] at hw
    exact hw
theorem k_zT (hG : GOK cf rec tb G Ret (ThJ G hs Rt)) {cd : ClassFile.Cond} {off : Int} (ha : EF G Rt h d p q a) (hi : alook tb q = some (.ifCond cd off, 3, D)) (hj : jm q off = t) : CE G Rt h d p t (q + 3) (cZ cd a) := by
  subst hj
  intro L st σ hd hw
  refine ha L st σ hd ((wpE_bnd hw).imp fun x L1 σ1 hw => hG q _ _ _ hi L1 _ σ1 ?_)
  simp only [awp]
  have hw : G (if holdC cd x 0 = true then jm q off else q + 3) L1 st σ1 := hw
  cases hh : holdC cd x 0
  · rw [hh] at hw
    exact hw
  · rw [hh] at hw
    exact hw
theorem k_and (h1 : CE G Rt h d p m f c1) (h2 : CE G Rt h d m t f c2) : CE G Rt h d p t f (cAnd c1 c2) := by
  intro L st σ hd hw
  refine h1 L st σ hd ((wpE_bnd hw).imp fun x L1 σ1 hw => ?_)
  cases x with
  | true => exact h2 L1 st σ1 hd hw
  | false => exact hw
theorem k_or (h1 : CE G Rt h d p t m c1) (h2 : CE G Rt h d m t f c2) : CE G Rt h d p t f (cOr c1 c2) := by
  intro L st σ hd hw
  refine h1 L st σ hd ((wpE_bnd hw).imp fun x L1 σ1 hw => ?_)
  cases x with
  | true => exact hw
  | false => exact h2 L1 st σ1 hd hw
theorem k_not (h1 : CE G Rt h d p f t c) : CE G Rt h d p t f (cNot c) := by
  intro L st σ hd hw
  refine h1 L st σ hd ((wpE_bnd hw).imp fun x L1 σ1 hw => ?_)
  cases x with
  | true => exact hw
  | false => exact hw
theorem k_tt : CE G Rt h d p p f cTT := fun _ _ _ _ hw => hw
theorem k_if {g : Nat} (h1 : CE G Rt h d p m n c) (h2 : CE G Rt h d m g f c1) (hg : ∀ L st σ, G t L st σ → G g L st σ) (h3 : CE G Rt h d n t f c2) : CE G Rt h d p t f (cIf c c1 c2) := by
  intro L st σ hd hw
  refine h1 L st σ hd ((wpE_bnd hw).imp fun x L1 σ1 hw => ?_)
  cases x with
  | true =>
    refine h2 L1 st σ1 hd (wpE.imp hw fun v L2 σ2 hk => ?_)
    cases v with
    | true => exact hg _ _ _ hk
    | false => exact hk
  | false => exact h3 L1 st σ1 hd hw
def SF (G : Nat → LL → List AV → SS → Prop) (Ret : Option Int32 → SS → Prop) (Rt : SS → Prop) (h : Option Nat) (rt : Bool) (bk ct p q : Nat) (s : SX) : Prop :=
  ∀ L σ, wpS (s L σ) (fun L' σ' => G q L' [] σ') (fun v σ' => Ret (if rt then some v else none) σ') (TT G Rt h) (fun L' σ' => G bk L' [] σ') (fun L' σ' => G ct L' [] σ') → G p L [] σ
theorem s_skip : SF G Ret Rt h rt bk ct p p sSkip := fun _ _ hw => hw
theorem s_seq (h1 : SF G Ret Rt h rt bk ct p m s1) (h2 : SF G Ret Rt h rt bk ct m q s2) : SF G Ret Rt h rt bk ct p q (sSeq s1 s2) := by
  intro L σ hw
  refine h1 L σ ?_
  unfold sSeq at hw
  match hs1 : s1 L σ, hw with
  | some (fl, L1, σ1), hw =>
    by_cases h0 : fl.1 = 0
    · simp only [wpS, if_pos h0]
      simp only [if_pos h0] at hw
      exact h2 L1 σ1 hw
    · simp only [if_neg h0] at hw
      simp only [wpS, if_neg h0] at hw ⊢
      exact hw
theorem s_gt (h1 : SF G Ret Rt h rt bk ct p m s) (hg : ∀ L st σ, G q L st σ → G m L st σ) : SF G Ret Rt h rt bk ct p q s := by
  intro L σ hw
  refine h1 L σ ?_
  match hs1 : s L σ, hw with
  | some (fl, L1, σ1), hw =>
    by_cases h0 : fl.1 = 0
    · simp only [wpS, if_pos h0] at hw ⊢
      exact hg _ _ _ hw
    · simp only [wpS, if_neg h0] at hw ⊢
      exact hw
theorem s_if (h0 : CE G Rt h 0 p t f c) (h1 : SF G Ret Rt h rt bk ct t q s1) (h2 : SF G Ret Rt h rt bk ct f q s2) : SF G Ret Rt h rt bk ct p q (sIf c s1 s2) := by
  intro L σ hw
  refine h0 L [] σ rfl ((wpS_sbnd hw).imp fun x L1 σ1 hw => ?_)
  cases x with
  | true => exact h1 L1 σ1 hw
  | false => exact h2 L1 σ1 hw
theorem s_set1 (hG : GOK cf rec tb G Ret (ThJ G hs Rt)) {k : Fin 4} (ha : EF G Rt h 0 p m a) (hi : alook tb m = some (.istore_n k, 1, D)) : SF G Ret Rt h rt bk ct p (m + 1) (sSet k.val a) := by
  intro L σ hw
  exact ha L [] σ rfl ((wpS_sbnd hw).imp fun x L1 σ1 hw => hG m _ _ _ hi L1 _ σ1 hw)
theorem s_set2 (hG : GOK cf rec tb G Ret (ThJ G hs Rt)) (ha : EF G Rt h 0 p m a) (hi : alook tb m = some (.istore k, 2, D)) : SF G Ret Rt h rt bk ct p (m + 2) (sSet k a) := by
  intro L σ hw
  exact ha L [] σ rfl ((wpS_sbnd hw).imp fun x L1 σ1 hw => hG m _ _ _ hi L1 _ σ1 hw)
theorem s_inc (hG : GOK cf rec tb G Ret (ThJ G hs Rt)) {w : Int} {v : Int32} (hi : alook tb p = some (.iinc k w, 3, D)) (hv : Int32.ofInt w = v) : SF G Ret Rt h rt bk ct p (p + 3) (sInc k v) := by
  subst hv
  exact fun L σ hw => hG p _ _ _ hi L _ σ hw
theorem s_putF (hG : GOK cf rec tb G Ret (ThJ G hs Rt)) (h0 : alook tb p = some (.aload_n 0, 1, D)) (ha : EF G Rt h 1 (p + 1) m a) (hi : alook tb m = some (.putfield n, 3, D1)) (hn : cf.2.1 n = some (0, k)) (hk : cf.1 k = 0) : SF G Ret Rt h rt bk ct p (m + 3) (sPutF k a) := by
  intro L σ hw
  refine g_this hG h0 (ha L _ σ rfl ((wpS_sbnd hw).imp fun x L1 σ1 hw => hG m _ _ _ hi L1 _ σ1 ?_))
  simp only [awp, hn]
  rw [if_pos (Or.inl hk)]
  exact hw
theorem s_putZ (hG : GOK cf rec tb G Ret (ThJ G hs Rt)) (h0 : alook tb p = some (.aload_n 0, 1, D)) (ha : EF G Rt h 1 (p + 1) m a) (hi : alook tb m = some (.putfield n, 3, D1)) (hn : cf.2.1 n = some (0, k)) (hk : cf.1 k = 1) : SF G Ret Rt h rt bk ct p (m + 3) (sPutZ k a) := by
  intro L σ hw
  refine g_this hG h0 (ha L _ σ rfl ((wpS_sbnd hw).imp fun x L1 σ1 hw => hG m _ _ _ hi L1 _ σ1 ?_))
  simp only [awp, hn]
  split at hw
  · next hv =>
    rw [if_pos (Or.inr ⟨hk, hv⟩)]
    exact hw
  · exact hw.elim
/-- one of the instructions that take two ints -/
def opI (i : Instr) (op : Int32 → Int32 → Int32) : Prop := (i = .iadd ∧ op = oAdd) ∨ (i = .isub ∧ op = oSub)
theorem opI.go (hG : GOK cf rec tb G Ret (ThJ G hs Rt)) {i : Instr} {op : Int32 → Int32 → Int32} (ho : opI i op) (hi : alook tb p = some (i, 1, D)) {L : LL} {st : List AV} {σ : SS} {x y : Int32} (hk : G (p + 1) L (.inl (op x y) :: st) σ) : G p L (.inl y :: .inl x :: st) σ := by
  rcases ho with ⟨rfl, rfl⟩ | ⟨rfl, rfl⟩
  · exact hG p _ _ _ hi L _ σ hk
  · exact hG p _ _ _ hi L _ σ hk
theorem s_opF (hG : GOK cf rec tb G Ret (ThJ G hs Rt)) {i : Instr} {op : Int32 → Int32 → Int32} (ho : opI i op) (h0 : alook tb p = some (.aload_n 0, 1, D)) (h1 : alook tb (p + 1) = some (.dup, 1, D1)) (h2 : alook tb (p + 2) = some (.getfield n, 3, D2)) (ha : EF G Rt h 2 (p + 5) m a) (hi : alook tb m = some (i, 1, D3)) (hi2 : alook tb (m + 1) = some (.putfield n, 3, D4)) (hn : cf.2.1 n = some (0, k)) (hk : cf.1 k = 0) : SF G Ret Rt h rt bk ct p (m + 4) (sOpF op k a) := by
  intro L σ hw
  refine g_this hG h0 (hG _ _ _ _ h1 L _ σ (g_fi hG h2 hn (by omega) (ha L _ σ rfl ((wpS_sbnd hw).imp fun x L1 σ1 hw => opI.go hG ho hi (hG _ _ _ _ hi2 L1 _ σ1 ?_)))))
  simp only [awp, hn]
  rw [if_pos (Or.inl hk)]
  exact hw
theorem s_putS (hG : GOK cf rec tb G Ret (ThJ G hs Rt)) (h0 : alook tb p = some (.aload_n 0, 1, D)) (h1 : alook tb (p + 1) = some (.getfield n, 3, D1)) (ha : EF G Rt h 1 (p + 4) m a) (hi : alook tb m = some (.putfield n2, 3, D2)) (hn : cf.2.1 n = some (0, k)) (hn2 : cf.2.1 n2 = some (2, z)) (hk : cf.1 k = 2 ∧ k < 23) : SF G Ret Rt h rt bk ct p (m + 3) (sPutS k a) := by
  intro L σ hw
  refine g_this hG h0 (g_fo hG h1 hn (by omega) (ha L _ σ rfl ((wpS_sbnd hw).imp fun x L1 σ1 hw => hG m _ _ _ hi L1 _ σ1 ?_)))
  simp only [awp, hn2]
  rw [if_pos hk]
  match hr : rowSize σ1 k x, hw with
  | some σ2, hw => exact hw
theorem s_opS (hG : GOK cf rec tb G Ret (ThJ G hs Rt)) {i : Instr} {op : Int32 → Int32 → Int32} (ho : opI i op) {n3 z3 : Nat} (h0 : alook tb p = some (.aload_n 0, 1, D)) (h1 : alook tb (p + 1) = some (.getfield n, 3, D1)) (h2 : alook tb (p + 4) = some (.dup, 1, D2)) (h3 : alook tb (p + 5) = some (.getfield n3, 3, D3)) (ha : EF G Rt h 2 (p + 8) m a) (hi : alook tb m = some (i, 1, D4)) {D5 : List Nat} (hi2 : alook tb (m + 1) = some (.putfield n2, 3, D5)) (hn : cf.2.1 n = some (0, k)) (hn2 : cf.2.1 n2 = some (2, z)) (hn3 : cf.2.1 n3 = some (2, z3)) (hk : cf.1 k = 2 ∧ k < 23) : SF G Ret Rt h rt bk ct p (m + 4) (sOpS op k a) := by
  intro L σ hw
  refine g_this hG h0 (g_fo hG h1 hn (by omega) (hG _ _ _ _ h2 L _ σ (g_rs hG h3 hn3 hk (ha L _ σ rfl ((wpS_sbnd hw).imp fun x L1 σ1 hw => opI.go hG ho hi (hG _ _ _ _ hi2 L1 _ σ1 ?_))))))
  simp only [awp, hn2]
  rw [if_pos hk]
  match hr : rowSize σ1 k (op (nI (σ.2.1 k).length) x), hw with
  | some σ2, hw => exact hw
theorem s_At (hG : GOK cf rec tb G Ret (ThJ G hs Rt)) (h0 : alook tb p = some (.aload_n 0, 1, D)) (h1 : alook tb (p + 1) = some (.getfield n, 3, D1)) (h2 : alook tb (p + 4) = some (.getfield n2, 3, D2)) (hi0 : EF G Rt h 1 (p + 7) m i) (ha : EF G Rt h 2 m q a) (hi : alook tb q = some (.iastore, 1, D3)) (hn : cf.2.1 n = some (0, k)) (hn2 : cf.2.1 n2 = some (1, z)) (hk : cf.1 k = 2 ∧ k < 23) : SF G Ret Rt h rt bk ct p (q + 1) (sAt k i a) := by
  intro L σ hw
  refine g_this hG h0 (g_fo hG h1 hn (by omega) (g_rc hG h2 hn2 hk (hi0 L _ σ rfl ((wpS_sbnd hw).imp fun j L1 σ1 hw => ?_))))
  refine ha L1 _ σ1 rfl ((wpS_sbnd hw).imp fun x L2 σ2 hw => hG q _ _ _ hi L2 _ σ2 ?_)
  simp only [awp]
  split at hw
  · next hc =>
    rw [if_pos ⟨hk.1, hk.2, hc⟩]
    match hr : rowSet σ2 k j x, hw with
    | some σ3, hw => exact hw
  · exact hw.elim
theorem s_Ar (hG : GOK cf rec tb G Ret (ThJ G hs Rt)) (h0 : alook tb p = some (.aload_n 0, 1, D)) (h1 : alook tb (p + 1) = some (.getfield n, 3, D1)) (hi0 : EF G Rt h 1 (p + 4) m i) (ha : EF G Rt h 2 m q a) (hi : alook tb q = some (.iastore, 1, D3)) (hn : cf.2.1 n = some (0, k)) (hk : cf.1 k = 4 ∧ k < 23) : SF G Ret Rt h rt bk ct p (q + 1) (sArr k i a) := by
  intro L σ hw
  refine g_this hG h0 (g_fo hG h1 hn (by omega) (hi0 L _ σ rfl ((wpS_sbnd hw).imp fun j L1 σ1 hw => ?_)))
  refine ha L1 _ σ1 rfl ((wpS_sbnd hw).imp fun x L2 σ2 hw => hG q _ _ _ hi L2 _ σ2 ?_)
  simp only [awp]
  rw [if_pos hk]
  match hr : rowSet σ2 k j x, hw with
  | some σ3, hw => exact hw
theorem s_Ab (hG : GOK cf rec tb G Ret (ThJ G hs Rt)) (h0 : alook tb p = some (.aload_n 0, 1, D)) (h1 : alook tb (p + 1) = some (.getfield n, 3, D1)) (hi0 : EF G Rt h 1 (p + 4) m i) (ha : EF G Rt h 2 m q a) (hi : alook tb q = some (.bastore, 1, D3)) (hn : cf.2.1 n = some (0, k)) (hk : cf.1 k = 3 ∧ k < 23) : SF G Ret Rt h rt bk ct p (q + 1) (sArrB k i a) := by
  intro L σ hw
  refine g_this hG h0 (g_fo hG h1 hn (by omega) (hi0 L _ σ rfl ((wpS_sbnd hw).imp fun j L1 σ1 hw => ?_)))
  refine ha L1 _ σ1 rfl ((wpS_sbnd hw).imp fun x L2 σ2 hw => hG q _ _ _ hi L2 _ σ2 ?_)
  simp only [awp]
  split at hw
  · next hv =>
    rw [if_pos ⟨hk.1, hk.2, hv⟩]
    match hr : rowSet σ2 k j x, hw with
    | some σ3, hw => exact hw
  · exact hw.elim
theorem s_add (hG : GOK cf rec tb G Ret (ThJ G hs Rt)) {np : Nat} {r2 : Bool} (h0 : alook tb p = some (.aload_n 0, 1, D)) (h1 : alook tb (p + 1) = some (.getfield n, 3, D1)) (ha : EF G Rt h 1 (p + 4) m a) (hi : alook tb m = some (.invokevirtual n2, 3, D2)) (hn : cf.2.1 n = some (0, k)) (hn2 : cf.2.2.1 n2 = some (1, 0, np, r2)) (hk : cf.1 k = 2 ∧ k < 23) : SF G Ret Rt h rt bk ct p (m + 3) (sAdd k a) := by
  intro L σ hw
  refine g_this hG h0 (g_fo hG h1 hn (by omega) (ha L _ σ rfl ((wpS_sbnd hw).imp fun x L1 σ1 hw => hG m _ _ _ hi L1 _ σ1 ?_)))
  simp only [awp, hn2]
  rw [if_pos ⟨hk.1, hk.2, Nat.zero_le _⟩]
  match hr : rowAdd σ1 k x, hw with
  | some σ2, hw => exact hw
theorem s_swap (hG : GOK cf rec tb G Ret (ThJ G hs Rt)) {np : Nat} {r2 : Bool} (h0 : alook tb p = some (.aload_n 0, 1, D)) (h1 : alook tb (p + 1) = some (.getfield n, 3, D1)) (hi0 : EF G Rt h 1 (p + 4) m i) (ha : EF G Rt h 2 m q a) (hi : alook tb q = some (.invokevirtual n2, 3, D2)) (hn : cf.2.1 n = some (0, k)) (hn2 : cf.2.2.1 n2 = some (1, 2, np, r2)) (hk : cf.1 k = 2 ∧ k < 23) : SF G Ret Rt h rt bk ct p (q + 3) (sSwap k i a) := by
  intro L σ hw
  refine g_this hG h0 (g_fo hG h1 hn (by omega) (hi0 L _ σ rfl ((wpS_sbnd hw).imp fun j L1 σ1 hw => ?_)))
  refine ha L1 _ σ1 rfl ((wpS_sbnd hw).imp fun x L2 σ2 hw => hG q _ _ _ hi L2 _ σ2 ?_)
  simp only [awp, hn2]
  rw [if_pos ⟨hk.1, hk.2, Nat.zero_le _⟩]
  match hr : rowSwap σ2 k j x, hw with
  | some σ3, hw => exact hw
theorem s_call (hG : GOK cf rec tb G Ret (ThJ G hs Rt)) {tg np : Nat} {as : List EX} (h0 : alook tb p = some (.aload_n 0, 1, D)) (ha : AE G Rt h 1 (p + 1) q as) (hi : alook tb q = some (.invokevirtual n, 3, D1)) (hn : cf.2.2.1 n = some (0, tg, np, false)) (hl : as.length = np) (hh : hs q = h) : SF G Ret Rt h rt bk ct p (q + 3) (sEx (eCall rec tg as)) := by
  intro L σ hw
  exact g_callv hG h0 ha hi hn hl rfl hh rfl ((wpS_sbnd hw).imp fun _ _ _ hw => hw)
theorem s_pop (hG : GOK cf rec tb G Ret (ThJ G hs Rt)) (ha : EF G Rt h 0 p m a) (hi : alook tb m = some (.pop, 1, D)) : SF G Ret Rt h rt bk ct p (m + 1) (sEx a) := by
  intro L σ hw
  exact ha L _ σ rfl ((wpS_sbnd hw).imp fun x L1 σ1 hw => hG m _ _ _ hi L1 _ σ1 hw)
theorem s_ret (hG : GOK cf rec tb G Ret (ThJ G hs Rt)) (ha : EF G Rt h 0 p m a) (hi : alook tb m = some (.ireturn, 1, D)) : SF G Ret Rt h true bk ct p q (sRet a) := by
  intro L σ hw
  exact ha L _ σ rfl ((wpS_sbnd hw).imp fun x L1 σ1 hw => hG m _ _ _ hi L1 _ σ1 hw)
theorem s_ret0 (hG : GOK cf rec tb G Ret (ThJ G hs Rt)) (hi : alook tb p = some (.return_, 1, D)) : SF G Ret Rt h false bk ct p q sRet0 := fun L σ hw => hG p _ _ _ hi L _ σ hw
theorem s_brk (hg : ∀ L st σ, G bk L st σ → G p L st σ) : SF G Ret Rt h rt bk ct p q sBrk := fun L σ hw => hg L [] σ hw
theorem s_cnt (hg : ∀ L st σ, G ct L st σ → G p L st σ) : SF G Ret Rt h rt bk ct p q sCnt := fun L σ hw => hg L [] σ hw
theorem g_id : ∀ L st σ, G p L st σ → G p L st σ := fun _ _ _ hk => hk
theorem s_wh {s0 b2 c2 : Nat} (h0 : CE G Rt h 0 p t q c) (h1 : SF G Ret Rt h rt q s0 t s0 s1) (h2 : SF G Ret Rt h rt b2 c2 s0 p s2) (hstp : ∀ L σ fl L' σ', s2 L σ = some (fl, L', σ') → fl.1 ≠ 3 ∧ fl.1 ≠ 4) : ∀ N, SF G Ret Rt h rt bk ct p q (sWh N c s1 s2) := by
  intro N
  induction N with
  | zero => intro L σ hw; exact hw.elim
  | succ N ih =>
    intro L σ hw
    refine h0 L [] σ rfl ((wpS_sbnd hw).imp fun x L1 σ1 hw => ?_)
    cases x with
    | false => exact hw
    | true =>
      refine h1 L1 σ1 ?_
      simp only [if_true] at hw
      match hb : s1 L1 σ1, hw with
      | some (fl, L2, σ2), hw =>
        have cont : (fl.1 = 0 ∨ fl.1 = 4) → G s0 L2 [] σ2 := by
          intro hc
          simp only [if_pos hc] at hw
          refine h2 L2 σ2 ?_
          match hst : s2 L2 σ2, hw with
          | some (fl2, L3, σ3), hw =>
            obtain ⟨n3, n4⟩ := hstp _ _ _ _ _ hst
            by_cases e0 : fl2.1 = 0
            · simp only [wpS, if_pos e0]
              simp only [if_pos e0] at hw
              exact ih L3 σ3 hw
            · simp only [if_neg e0] at hw
              simp only [wpS, if_neg e0, if_neg n3, if_neg n4] at hw ⊢
              exact hw
        by_cases e0 : fl.1 = 0
        · simp only [wpS, if_pos e0]
          exact cont (Or.inl e0)
        · by_cases e4 : fl.1 = 4
          · have e1 : fl.1 ≠ 1 := by omega
            have e2 : fl.1 ≠ 2 := by omega
            have e3 : fl.1 ≠ 3 := by omega
            simp only [wpS, if_neg e0, if_neg e1, if_neg e2, if_neg e3, if_pos e4]
            exact cont (Or.inr e4)
          · have hc : ¬ (fl.1 = 0 ∨ fl.1 = 4) := fun hc => hc.elim e0 e4
            simp only [if_neg hc] at hw
            by_cases e3 : fl.1 = 3
            · have e1 : fl.1 ≠ 1 := by omega
              have e2 : fl.1 ≠ 2 := by omega
              simp only [if_pos e3] at hw
              simp only [wpS, if_neg e0, if_neg e1, if_neg e2, if_pos e3]
              exact hw
            · simp only [if_neg e3] at hw
              simp only [wpS, if_neg e0, if_neg e3, if_neg e4] at hw ⊢
              exact hw
theorem s_do {s0 : Nat} (h1 : SF G Ret Rt h rt q s0 p s0 s1) (h0 : CE G Rt h 0 s0 p q c) : ∀ N, SF G Ret Rt h rt bk ct p q (sDo N s1 c) := by
  intro N
  induction N with
  | zero => intro L σ hw; exact hw.elim
  | succ N ih =>
    intro L σ hw
    refine h1 L σ ?_
    unfold sDo at hw
    match hb : s1 L σ, hw with
    | some (fl, L2, σ2), hw =>
      have cont : (fl.1 = 0 ∨ fl.1 = 4) → G s0 L2 [] σ2 := by
        intro hc
        simp only [if_pos hc] at hw
        refine h0 L2 [] σ2 rfl ((wpS_sbnd hw).imp fun x L3 σ3 hw => ?_)
        cases x with
        | false => exact hw
        | true => exact ih L3 σ3 hw
      by_cases e0 : fl.1 = 0
      · simp only [wpS, if_pos e0]
        exact cont (Or.inl e0)
      · by_cases e4 : fl.1 = 4
        · have e1 : fl.1 ≠ 1 := by omega
          have e2 : fl.1 ≠ 2 := by omega
          have e3 : fl.1 ≠ 3 := by omega
          simp only [wpS, if_neg e0, if_neg e1, if_neg e2, if_neg e3, if_pos e4]
          exact cont (Or.inr e4)
        · have hc : ¬ (fl.1 = 0 ∨ fl.1 = 4) := fun hc => hc.elim e0 e4
          simp only [if_neg hc] at hw
          by_cases e3 : fl.1 = 3
          · have e1 : fl.1 ≠ 1 := by omega
            have e2 : fl.1 ≠ 2 := by omega
            simp only [if_pos e3] at hw
            simp only [wpS, if_neg e0, if_neg e1, if_neg e2, if_pos e3]
            exact hw
          · simp only [if_neg e3] at hw
            simp only [wpS, if_neg e0, if_neg e3, if_neg e4] at hw ⊢
            exact hw
/-- a table's case -/
def selT (dfl : Nat) (lo hi : Int) (tbl : List Nat) (v : Int32) : Nat := if v.toInt < lo ∨ hi < v.toInt then dfl else tbl.getD (v.toInt - lo).toNat dfl
def selL (dfl : Nat) (tbl : List (Int × Nat)) (v : Int32) : Nat := match tbl with
  | [] => dfl
  | (k, i) :: t => if k = v.toInt then i else selL dfl t v
theorem s_sw {sel : Int32 → Nat} {bd : Nat → SX} {st : Nat → Nat} (ha : EF G Rt h 0 p m a) (hi : ∀ L σ v, G (st (sel v)) L [] σ → G m L [.inl v] σ) (hb : ∀ v, SF G Ret Rt h rt q ct (st (sel v)) q (bd (sel v))) : SF G Ret Rt h rt bk ct p q (sSw a fun v => bd (sel v)) := by
  intro L σ hw
  refine ha L [] σ rfl ((wpS_sbnd hw).imp fun v L1 σ1 hw => hi L1 σ1 v (hb v L1 σ1 ?_))
  dsimp only at hw
  generalize bd (sel v) L1 σ1 = rr at hw ⊢
  match rr, hw with
  | some (fl, L2, σ2), hw =>
    by_cases e3 : fl.1 = 3
    · have e0 : fl.1 ≠ 0 := by omega
      have e1 : fl.1 ≠ 1 := by omega
      have e2 : fl.1 ≠ 2 := by omega
      simp only [if_pos e3] at hw
      simp only [wpS, if_neg e0, if_neg e1, if_neg e2, if_pos e3]
      exact hw
    · simp only [if_neg e3] at hw
      simp only [wpS, if_neg e3] at hw ⊢
      exact hw
theorem g_tsw (hG : GOK cf rec tb G Ret (ThJ G hs Rt)) {dd lo hi : Int} {offs : Array Int} {len dfl : Nat} {tbl : List Nat} {st : Nat → Nat} (ha : alook tb m = some (.tableswitch dd lo hi offs, len, D)) (h1 : jm m dd = st dfl) (h2 : offs.toList.map (jm m) = tbl.map st) (h3 : (hi - lo).toNat < tbl.length) : ∀ L σ v, G (st (selT dfl lo hi tbl v)) L [] σ → G m L [.inl v] σ := by
  intro L σ v hk
  refine hG m _ _ _ ha L _ σ ?_
  simp only [awp]
  unfold tsw
  unfold selT at hk
  by_cases hc : v.toInt < lo ∨ hi < v.toInt
  · rw [if_pos hc] at hk ⊢
    rw [h1]
    exact hk
  · rw [if_neg hc] at hk ⊢
    have hlt : (v.toInt - lo).toNat < tbl.length := by
      have : ¬ v.toInt < lo := fun q => hc (Or.inl q)
      have : ¬ hi < v.toInt := fun q => hc (Or.inr q)
      omega
    have e1 : (offs[(v.toInt - lo).toNat]?).map (jm m) = some (st (tbl.getD (v.toInt - lo).toNat dfl)) := by
      rw [← Array.getElem?_toList, ← List.getElem?_map, h2, List.getElem?_map, List.getElem?_eq_getElem hlt]
      simp [List.getD, hlt]
    rw [e1]
    exact hk
theorem selL_off {st : Nat → Nat} {dd : Int} {dfl : Nat} (h1 : jm m dd = st dfl) (v : Int32) : ∀ (ps : List (Int × Int)) (tbl : List (Int × Nat)), ps.map (fun q => (q.1, jm m q.2)) = tbl.map (fun q => (q.1, st q.2)) → jm m (Op.lookupswitch.offset ps dd v.toInt) = st (selL dfl tbl v) := by
  intro ps
  induction ps with
  | nil =>
    intro tbl he
    cases tbl with
    | nil => exact h1
    | cons a t => cases he
  | cons a t ih =>
    intro tbl he
    cases tbl with
    | nil => cases he
    | cons b u =>
      obtain ⟨k, o⟩ := a
      obtain ⟨k', i⟩ := b
      simp only [List.map_cons, List.cons.injEq, Prod.mk.injEq] at he
      obtain ⟨⟨e1, e2⟩, e3⟩ := he
      subst e1
      unfold Op.lookupswitch.offset selL
      split
      · exact e2
      · exact ih u e3
theorem g_lsw (hG : GOK cf rec tb G Ret (ThJ G hs Rt)) {dd : Int} {ps : Array (Int × Int)} {len dfl : Nat} {tbl : List (Int × Nat)} {st : Nat → Nat} (ha : alook tb m = some (.lookupswitch dd ps, len, D)) (h1 : jm m dd = st dfl) (h2 : ps.toList.map (fun q => (q.1, jm m q.2)) = tbl.map (fun q => (q.1, st q.2))) : ∀ L σ v, G (st (selL dfl tbl v)) L [] σ → G m L [.inl v] σ := by
  intro L σ v hk
  refine hG m _ _ _ ha L _ σ ?_
  simp only [awp]
  rw [selL_off h1 v _ _ h2]
  exact hk
theorem s_try {zh zq : Nat} (h1 : SF G Ret Rt (some zh) rt bk ct p q s1) (hz : ∀ L σ, G zq L [] σ → G zh L [.inr (0, 0)] σ) (h2 : SF G Ret Rt h rt bk ct zq q s2) : SF G Ret Rt h rt bk ct p q (sTry s1 s2) := by
  intro L σ hw
  refine h1 L σ ?_
  unfold sTry at hw
  match hr : s1 L σ, hw with
  | some (fl, L2, σ2), hw =>
    by_cases e2 : fl.1 = 2
    · have e0 : fl.1 ≠ 0 := by omega
      have e1 : fl.1 ≠ 1 := by omega
      simp only [if_pos e2] at hw
      simp only [wpS, if_neg e0, if_neg e1, if_pos e2]
      exact hz _ _ (h2 L2 σ2 hw)
    · simp only [if_neg e2] at hw
      simp only [wpS, if_neg e2] at hw ⊢
      exact hw
/-- the whole body -/
theorem RUNS.of {inst isb : Bool} {np : Nat} {as : List Int32} {σ σ' : SS} {r : Option Int32} (hm : mth inst rt isb np s as σ = some (r, σ'))
    (hf : ∀ (G : Nat → LL → List AV → SS → Prop) (Ret : Option Int32 → SS → Prop) (Rt : SS → Prop), GOK cf rec tb G Ret (ThJ G hs Rt) → SF G Ret Rt none rt 0 0 0 99999 s) : RUNS cf rec tb hs rt (L0of inst as) σ r σ' := by
  intro G Ret Rt hG hr
  refine hf G Ret Rt hG (L0of inst as) σ ?_
  unfold mth at hm
  split at hm
  · split at hm
    · next v L1 σ1 hb =>
      rw [hb]
      split at hm
      · cases hm
      · have hm := Option.some.inj hm
        have e1 : some (if rt then v else 0) = r := congrArg Prod.fst hm
        have e2 : σ1 = σ' := congrArg Prod.snd hm
        subst e1; subst e2
        simp only [wpS]
        cases rt with
        | true => exact hr
        | false => exact hr
    · next v L1 σ1 hb =>
      rw [hb]
      have hm := Option.some.inj hm
      have e1 : none = r := congrArg Prod.fst hm
      have e2 : σ1 = σ' := congrArg Prod.snd hm
      subst e1; subst e2
      exact hr
    · cases hm
  · cases hm
end FS
