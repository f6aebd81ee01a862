/-! soundness: the points are kept by every instruction -/
set_option maxHeartbeats 4000000 in
theorem gj_ok {p : Program} {l : Launch} {e : Env} {R : Room} {s : State} {m : MethodId} {args : Array Value} {below : List Frame} {meth : Method} {c : Code} {QQ : State → Prop} {cf : CF} {w : WP} {tb : TB} {inst : Bool} {nL : Nat} {hs : Nat → Option Nat} {A0 : Nat → Nat} {σ0 : SS} {cc : ByteArray} {jc : JC} {ty : Nat → FieldType} {mi : Nat → Option MF} {rec : RC} {nn : Nat} {Rt : SS → Prop} {Ret : Option Int32 → SS → Prop}
    (hx : p.tables.exec = Jvm.exec) (hb : c.code = cc) (htb : ∀ pc i len D, alook tb pc = some (i, len, D) → decode cc pc = .ok (i, len)) (hdc : dchk inst nL hs tb = true) (hal : inst = true ∨ ∀ q ∈ tb, ∀ k, q.2.1 ≠ .aload_n k) (hts : ∀ w ∈ lw_all, w.before args s = true) (hown : s.vm.findClass jc.1 = some m.cls) (hml : c.maxLocals = nL) (hK : KK jc w s) (hcf : CFok jc cf ty) (hMI : MIok jc cf mi) (hrec : RECok l jc cf.1 w mi rec nn) (hROW : ROWok l jc cf w) (hR : R = rmOf (nn + 1) σ0)
    (hTh : ThOK p l e R s m args below meth c QQ cf.1 w tb inst nL hs A0 σ0 Rt)
    (hRi : ∀ pc v σ ls H locs A, decode cc pc = .ok (.ireturn, 1) → Ret (some v) σ → WR cf.1 w A σ H → AG A0 A σ0 σ → FR w s.heap H locs → W p l e R s m args below meth c H locs (σ.2.2.2.1 - σ0.2.2.2.1) (σ.2.2.2.2 - σ0.2.2.2.2) QQ (F0 m pc ls [.int v]))
    (hRv : ∀ pc σ ls H locs A, decode cc pc = .ok (.return_, 1) → Ret none σ → WR cf.1 w A σ H → AG A0 A σ0 σ → FR w s.heap H locs → W p l e R s m args below meth c H locs (σ.2.2.2.1 - σ0.2.2.2.1) (σ.2.2.2.2 - σ0.2.2.2.2) QQ (F0 m pc ls [])) :
    GOK cf rec tb (GJ p l e R s m args below meth c QQ cf.1 w tb inst nL A0 σ0) Ret (ThJ (GJ p l e R s m args below meth c QQ cf.1 w tb inst nL A0 σ0) hs Rt) := by
  intro pc i len D ha L st σ h
  have hd := htb pc i len D ha
  have hlen := (dchk_at hdc ha).2.2.2.2.1
  cases i with
  | iconst n =>
    have e1 : len = 1 := hlen (fun _ _ _ _ h => by cases h) (fun _ _ h => by cases h)
    subst e1
    exact gj_push1 hdc ha rfl rfl (fun ls stc H locs k n hl hk => lv_iconst hx hb hd rfl hk) h
  | bipush n =>
    have e1 : len = 2 := hlen (fun _ _ _ _ h => by cases h) (fun _ _ h => by cases h)
    subst e1
    exact gj_push1 hdc ha rfl rfl (fun ls stc H locs k n hl hk => lv_bipush hx hb hd rfl hk) h
  | sipush n =>
    have e1 : len = 3 := hlen (fun _ _ _ _ h => by cases h) (fun _ _ h => by cases h)
    subst e1
    exact gj_push1 hdc ha rfl rfl (fun ls stc H locs k n hl hk => lv_sipush hx hb hd rfl hk) h
  | ldc n =>
    have e1 : len = 2 := hlen (fun _ _ _ _ h => by cases h) (fun _ _ h => by cases h)
    subst e1
    simp only [awp] at h
    split at h
    · next v hv => exact gj_push1 hdc ha rfl rfl (fun ls stc H locs k n hl hk => lv_ldc hx hb hown (hts _ (hcf.2.2.2.2.2.2.2 _ _ hv)) hd hk) h
    · exact h.elim
  | iload_n k =>
    have e1 : len = 1 := hlen (fun _ _ _ _ h => by cases h) (fun _ _ h => by cases h)
    subst e1
    exact gj_push1 hdc ha rfl rfl (fun ls stc H locs k n hl hk => lv_iload_n hx hb hd rfl (gj_rd hdc ha (by simp [usesOf]) hl) hk) h
  | iload k =>
    have e1 : len = 2 := hlen (fun _ _ _ _ h => by cases h) (fun _ _ h => by cases h)
    subst e1
    exact gj_push1 hdc ha rfl rfl (fun ls stc H locs k n hl hk => lv_iload hx hb hd (gj_rd hdc ha (by simp [usesOf]) hl) hk) h
  | istore_n k =>
    have e1 : len = 1 := hlen (fun _ _ _ _ h => by cases h) (fun _ _ h => by cases h)
    subst e1
    simp only [awp] at h
    split at h
    · exact gj_store hdc ha rfl rfl (fun ls stc H locs k n lv hl hj hk => lv_istore_n hx hb hd rfl hl hj rfl hk) h
    · exact h.elim
  | istore k =>
    have e1 : len = 2 := hlen (fun _ _ _ _ h => by cases h) (fun _ _ h => by cases h)
    subst e1
    simp only [awp] at h
    split at h
    · exact gj_store hdc ha rfl rfl (fun ls stc H locs k n lv hl hj hk => lv_istore hx hb hd hl hj rfl hk) h
    · exact h.elim
  | iinc k n =>
    have e1 : len = 3 := hlen (fun _ _ _ _ h => by cases h) (fun _ _ h => by cases h)
    subst e1
    exact gj_iinc hdc ha hx hb hd h
  | aload_n k =>
    have e1 : len = 1 := hlen (fun _ _ _ _ h => by cases h) (fun _ _ h => by cases h)
    subst e1
    simp only [awp] at h
    split at h
    · next hk =>
      rcases hal with hi | hi
      · exact gj_this hdc ha hi hk hx hb hd h
      · exact absurd rfl (hi _ (alook_mem ha) k)
    · exact h.elim
  | astore_n k =>
    have e1 : len = 1 := hlen (fun _ _ _ _ h => by cases h) (fun _ _ h => by cases h)
    subst e1
    simp only [awp] at h
    split at h
    · exact gj_astore hdc ha rfl rfl rfl (fun ls stc H locs k n x lv hl hj hk => lv_astore_n hx hb hd rfl hl hj rfl hk) h
    · exact h.elim
  | astore k =>
    have e1 : len = 2 := hlen (fun _ _ _ _ h => by cases h) (fun _ _ h => by cases h)
    subst e1
    simp only [awp] at h
    split at h
    · exact gj_astore hdc ha rfl rfl rfl (fun ls stc H locs k n x lv hl hj hk => lv_astore hx hb hd hl hj rfl hk) h
    · exact h.elim
  | iadd =>
    have e1 : len = 1 := hlen (fun _ _ _ _ h => by cases h) (fun _ _ h => by cases h)
    subst e1
    simp only [awp] at h
    split at h
    · exact gj_bin hdc ha rfl rfl (fun ls stc H locs k n hk => lv_iadd hx hb hd hk) h
    · exact h.elim
  | isub =>
    have e1 : len = 1 := hlen (fun _ _ _ _ h => by cases h) (fun _ _ h => by cases h)
    subst e1
    simp only [awp] at h
    split at h
    · exact gj_bin hdc ha rfl rfl (fun ls stc H locs k n hk => lv_isub hx hb hd hk) h
    · exact h.elim
  | imul =>
    have e1 : len = 1 := hlen (fun _ _ _ _ h => by cases h) (fun _ _ h => by cases h)
    subst e1
    simp only [awp] at h
    split at h
    · exact gj_bin hdc ha rfl rfl (fun ls stc H locs k n hk => lv_imul hx hb hd hk) h
    · exact h.elim
  | iand =>
    have e1 : len = 1 := hlen (fun _ _ _ _ h => by cases h) (fun _ _ h => by cases h)
    subst e1
    simp only [awp] at h
    split at h
    · exact gj_bin hdc ha rfl rfl (fun ls stc H locs k n hk => lv_iand hx hb hd hk) h
    · exact h.elim
  | ishr =>
    have e1 : len = 1 := hlen (fun _ _ _ _ h => by cases h) (fun _ _ h => by cases h)
    subst e1
    simp only [awp] at h
    split at h
    · exact gj_bin hdc ha rfl rfl (fun ls stc H locs k n hk => lv_ishr hx hb hd hk) h
    · exact h.elim
  | idiv =>
    have e1 : len = 1 := hlen (fun _ _ _ _ h => by cases h) (fun _ _ h => by cases h)
    subst e1
    simp only [awp] at h
    split at h
    · split at h
      · exact h.elim
      · next hne => exact gj_bin hdc ha rfl rfl (fun ls stc H locs k n hk => lv_idiv hx hb hd hne hk) h
    · exact h.elim
  | irem =>
    have e1 : len = 1 := hlen (fun _ _ _ _ h => by cases h) (fun _ _ h => by cases h)
    subst e1
    simp only [awp] at h
    split at h
    · split at h
      · exact h.elim
      · next hne => exact gj_bin hdc ha rfl rfl (fun ls stc H locs k n hk => lv_irem hx hb hd hne hk) h
    · exact h.elim
  | i2b =>
    have e1 : len = 1 := hlen (fun _ _ _ _ h => by cases h) (fun _ _ h => by cases h)
    subst e1
    simp only [awp] at h
    split at h
    · exact gj_un hdc ha rfl rfl (fun ls stc H locs k n hk => lv_i2b hx hb hd rfl hk) h
    · exact h.elim
  | dup =>
    have e1 : len = 1 := hlen (fun _ _ _ _ h => by cases h) (fun _ _ h => by cases h)
    subst e1
    simp only [awp] at h
    split at h
    · exact gj_dup hdc ha hx hb hd h
    · exact h.elim
  | dup_x1 =>
    have e1 : len = 1 := hlen (fun _ _ _ _ h => by cases h) (fun _ _ h => by cases h)
    subst e1
    simp only [awp] at h
    split at h
    · exact gj_dup_x1 hdc ha hx hb hd h
    · exact h.elim
  | pop =>
    have e1 : len = 1 := hlen (fun _ _ _ _ h => by cases h) (fun _ _ h => by cases h)
    subst e1
    simp only [awp] at h
    split at h
    · exact gj_pop hdc ha hx hb hd h
    · exact h.elim
  | goto off =>
    have e1 : len = 3 := hlen (fun _ _ _ _ h => by cases h) (fun _ _ h => by cases h)
    subst e1
    exact gj_goto hdc ha hx hb hd h
  | if_icmp cd off =>
    have e1 : len = 3 := hlen (fun _ _ _ _ h => by cases h) (fun _ _ h => by cases h)
    subst e1
    simp only [awp] at h
    split at h
    · exact gj_icmp hdc ha hx hb hd h
    · exact h.elim
  | ifCond cd off =>
    have e1 : len = 3 := hlen (fun _ _ _ _ h => by cases h) (fun _ _ h => by cases h)
    subst e1
    simp only [awp] at h
    split at h
    · exact gj_if hdc ha hx hb hd h
    · exact h.elim
  | tableswitch d lo hi offs =>
    simp only [awp] at h
    split at h
    · split at h
      · next hq => exact gj_tsw hdc ha hx hb hd hq h
      · exact h.elim
    · exact h.elim
  | lookupswitch d ps =>
    simp only [awp] at h
    split at h
    · exact gj_lsw hdc ha hx hb hd h
    · exact h.elim
  | getfield n =>
    have e1 : len = 3 := hlen (fun _ _ _ _ h => by cases h) (fun _ _ h => by cases h)
    subst e1
    simp only [awp] at h
    split at h
    · next hn => exact gj_getM hdc ha hx hb hd hts hown hK hcf hn h
    · next hn =>
      split at h
      · next hk =>
        have hi := hcf.2.1 _ _ hn
        subst hi
        refine gj_getR (j := 0) hdc ha hx hb hd hts hown hK hcf hk.2 hk.1 (by decide) (va_Nw.use rfl hK.2.2.2.2.2.1) (fun A => ?_) h
        exact ⟨_, rfl, Nat.le_refl _, fun _ => rfl⟩
      · exact h.elim
    · next hn =>
      split at h
      · next hk =>
        have hi := hcf.2.2.1 _ _ hn
        subst hi
        exact gj_getR (j := 1) (a := .inl (nI (σ.2.1 _).length)) hdc ha hx hb hd hts hown hK hcf hk.2 hk.1 (by decide) (va_Nw.use rfl hK.2.2.2.2.2.2) (fun A => rfl) h
      · exact h.elim
    · exact h.elim
  | putfield n =>
    have e1 : len = 3 := hlen (fun _ _ _ _ h => by cases h) (fun _ _ h => by cases h)
    subst e1
    simp only [awp] at h
    split at h
    · next hn =>
      split at h
      · next hv => exact gj_putM hdc ha hx hb hd hts hown hK hcf hn hv h
      · exact h.elim
    · next hn =>
      split at h
      · next hk =>
        have hi := hcf.2.2.1 _ _ hn
        subst hi
        split at h
        · next hv => exact gj_putS hdc ha hx hb hd hts hown hK hcf hk.2 hk.1 (va_Nw.use rfl hK.2.2.2.2.2.2) hv h
        · exact h.elim
      · exact h.elim
    · exact h.elim
  | iaload =>
    have e1 : len = 1 := hlen (fun _ _ _ _ h => by cases h) (fun _ _ h => by cases h)
    subst e1
    simp only [awp] at h
    split at h
    · next k st' =>
      split at h
      · next hk =>
        split at h
        · next v hv =>
          refine gj_ald (l0 := σ.2.1 k) (N := σ.2.2.1 k) (cA := w.cI) hdc ha rfl rfl hv (fun ls stc H locs k n b f hf hin hk => ?_) (fun A H x hW hx => ⟨A (2 * k + 1), hx, (hW.2.2.2.1 k hk.2 hk.1).1, by rw [(hW.2.2.2.1 k hk.2 hk.1).2.1]; exact Nat.le_refl _⟩) h
          have hlt := Nat.not_le.mp fun q => hin (Or.inr q)
          exact W.iald (v := .int (f _)) hx hb hf (hK.2.2.1.1 _ (fun j => .int (f j))) (fun q => by cases q) (by rw [arrV_size]; exact hin) (by rw [arrV_read _ _ hlt]) rfl rfl hd hk
        · exact h.elim
      · exact h.elim
    · next k n0 st' =>
      split at h
      · next hk =>
        split at h
        · next v hv =>
          refine gj_ald (l0 := σ.2.1 k) (N := σ.2.2.1 k) (cA := w.cI) hdc ha rfl rfl hv (fun ls stc H locs k n b f hf hin hk => ?_) (fun A H x hW hx => ?_) h
          · have hlt := Nat.not_le.mp fun q => hin (Or.inr q)
            exact W.iald (v := .int (f _)) hx hb hf (hK.2.2.1.1 _ (fun j => .int (f j))) (fun q => by cases q) (by rw [arrV_size]; exact hin) (by rw [arrV_read _ _ hlt]) rfl rfl hd hk
          · obtain ⟨a, e1, -, e2⟩ := hx
            have hro := hW.2.1 k hk.2.1 hk.1
            rw [e2 hk.2.2] at e1
            exact ⟨_, e1, hro.2.1, hro.2.2.1⟩
        · exact h.elim
      · exact h.elim
    · exact h.elim
  | baload =>
    have e1 : len = 1 := hlen (fun _ _ _ _ h => by cases h) (fun _ _ h => by cases h)
    subst e1
    simp only [awp] at h
    split at h
    · next k st' =>
      split at h
      · next hk =>
        split at h
        · next v hv =>
          refine gj_ald (l0 := σ.2.1 k) (N := σ.2.2.1 k) (cA := w.cB) hdc ha rfl rfl hv (fun ls stc H locs k n b f hf hin hk => ?_) (fun A H x hW hx => ⟨A (2 * k + 1), hx, (hW.2.2.1 k hk.2 hk.1).1, by rw [(hW.2.2.1 k hk.2 hk.1).2.1]; exact Nat.le_refl _⟩) h
          have hlt := Nat.not_le.mp fun q => hin (Or.inr q)
          exact W.bald (v := .int (f _)) hx hb hf (hK.2.2.2.1 _ (fun j => .int (f j))) (fun q => by cases q) (by rw [arrV_size]; exact hin) (by rw [arrV_read _ _ hlt]) rfl rfl hd hk
        · exact h.elim
      · exact h.elim
    · exact h.elim
  | iastore =>
    have e1 : len = 1 := hlen (fun _ _ _ _ h => by cases h) (fun _ _ h => by cases h)
    subst e1
    have row : ∀ (j v : Int32) (N : Nat) (ls : Array Slot) (stc : List Value) (H : Heap) (locs : List Loc) (k n b : Nat) (f : Nat → Int32), H[b]? = some (arrV w.cI N (fun j => Value.int (f j))) → vp_in j N → (∀ (H1 : Heap), H1[b]? = some (arrV w.cI N (fun q => Value.int (upd f j.toNatClampNeg v q))) → H1.size = H.size → (∀ q, q ≠ b → H1[q]? = H[q]?) → W p l e R s m args below meth c H1 (locs ++ [⟨b, j.toNatClampNeg⟩]) k n QQ (F0 m (pc + 1) ls stc)) → W p l e R s m args below meth c H locs k n QQ (F0 m pc ls (.int v :: .int j :: .ref b :: stc)) := by
      intro j v N ls stc H locs k n b f hf hin kk
      refine W.iast hx hb hf (hK.2.2.1.1 _ (fun j => .int (f j))) (fun q => by cases q) (by rw [arrV_size]; exact hin) rfl rfl hd fun H1 e1 e2 e3 => kk H1 ?_ e2 e3
      rw [e1, arrV_store]
      congr 2
      funext q
      by_cases hq : q = j.toNatClampNeg <;> simp [updV, upd, hq]
    simp only [awp] at h
    split at h
    · next k st' =>
      split at h
      · next hk =>
        split at h
        · next σ' hv =>
          refine gj_ast (N := σ.2.2.1 k) (z := 2 * k + 1) (cA := w.cI) hdc ha rfl rfl hv (Or.inr (Or.inl ⟨k, hk.2, by rw [hk.1]; decide, rfl⟩)) (row _ _ _) (fun A H x hW hx => ⟨hx, (hW.2.2.2.1 k hk.2 hk.1).1, by rw [(hW.2.2.2.1 k hk.2 hk.1).2.1]; exact Nat.le_refl _⟩) (fun A H H1 hW hz ho hin => ?_) h
          exact hW.arr1 hk.2 (Or.inr hk.1) hz ho (by simp) (by rw [if_neg (by rw [hk.1]; decide)]; exact hin)
        · exact h.elim
      · exact h.elim
    · next k n0 st' =>
      split at h
      · next hk =>
        split at h
        · next σ' hv =>
          refine gj_ast (N := σ.2.2.1 k) (z := 2 * k + 2) (cA := w.cI) hdc ha rfl rfl hv (Or.inr (Or.inr ⟨k, hk.2.1, hk.1, rfl⟩)) (row _ _ _) (fun A H x hW hx => ?_) (fun A H H1 hW hz ho hin => ?_) h
          · obtain ⟨a, e1, -, e2⟩ := hx
            have hro := hW.2.1 k hk.2.1 hk.1
            rw [e2 hk.2.2] at e1
            exact ⟨e1, hro.2.1, hro.2.2.1⟩
          · exact hW.row1 hk.2.1 hk.1 hz ho (by simp) hin
        · exact h.elim
      · exact h.elim
    · exact h.elim
  | bastore =>
    have e1 : len = 1 := hlen (fun _ _ _ _ h => by cases h) (fun _ _ h => by cases h)
    subst e1
    simp only [awp] at h
    split at h
    · next v j k st' =>
      split at h
      · next hk =>
        split at h
        · next σ' hv =>
          refine gj_ast (N := σ.2.2.1 k) (z := 2 * k + 1) (cA := w.cB) hdc ha rfl rfl hv (Or.inr (Or.inl ⟨k, hk.2.1, by rw [hk.1]; decide, rfl⟩)) (fun ls stc H locs k n b f hf hin kk => ?_) (fun A H x hW hx => ⟨hx, (hW.2.2.1 k hk.2.1 hk.1).1, by rw [(hW.2.2.1 k hk.2.1 hk.1).2.1]; exact Nat.le_refl _⟩) (fun A H H1 hW hz ho hin => ?_) h
          · refine W.bast hx hb hf (hK.2.2.2.1 _ (fun j => .int (f j))) (fun q => by cases q) (by rw [arrV_size]; exact hin) rfl rfl hd fun H1 e1 e2 e3 => kk H1 ?_ e2 e3
            have hnb : narrow .byte (.int v) = .int v := by
              have := pk_nb v
              rw [hk.2.2] at this
              exact this
            rw [e1, arrV_store, hnb]
            congr 2
            funext q
            by_cases hq : q = j.toNatClampNeg <;> simp [updV, upd, hq]
          · exact hW.arr1 hk.2.1 (Or.inl hk.1) hz ho (by simp) (by rw [if_pos hk.1]; exact hin)
        · exact h.elim
      · exact h.elim
    · exact h.elim
  | invokevirtual n =>
    have e1 : len = 3 := hlen (fun _ _ _ _ h => by cases h) (fun _ _ h => by cases h)
    subst e1
    simp only [awp] at h
    split at h
    · next t np rt hn =>
      split at h
      · next as z st' hp =>
        obtain ⟨h24, h⟩ := h
        obtain ⟨y, ws, maxL, hmi, hlink⟩ := hMI.2.2.2.1 _ _ _ _ hn
        have hmw := hMI.1 _ _ _ _ _ _ _ hmi
        obtain ⟨bs, g1, g2, -⟩ := pops_st _ _ _ _ _ hp
        have hasl : as.length = np := by rw [g2]; simpa using g1
        cases hr : rec t as σ with
        | none => rw [hr] at h; exact h.elim
        | some q =>
          obtain ⟨r, σ'⟩ := q
          rw [hr] at h
          refine gj_run (oo := fun A => A 0) (a0 := .inr (1, z)) (zz := 0) hx hb hd hts hown hml hK hR hdc ha hTh hmw hMI.2.1 hMI.2.2.1 hlink hasl (Nat.le_refl nn) (hrec _ _ _ _ _ _ _ hmi as σ r σ' hasl hr) h24 (fun A H x hW hx => ⟨hx, ?_⟩) hp h
          obtain ⟨cell, q1, q2, q3, -⟩ := hW.1
          exact ⟨cell, q1, by rw [q3]; rfl, by rw [q2]; exact hK.1.2.1⟩
      · exact h.elim
    · next np rt hn =>
      split at h
      · next v k st' =>
        split at h
        · next hk =>
          split at h
          · next σ' hv =>
            obtain ⟨y, ws, maxL, hmw, hlink, ho, -, -⟩ := hROW.2.2 _ _ _ _ hn
            refine gj_run (oo := fun A => A (2 * k + 1)) (a0 := .inr (k + 2, 0)) (zz := 0) (as := [v]) (rt := false) (r := some 0) (σ' := σ') hx hb hd hts hown hml hK hR hdc ha hTh hmw hROW.1 hROW.2.1 hlink rfl (Nat.zero_le nn) (ho rfl k v σ σ' hk.2.1 hk.1 hv) hk.2.2 (fun A H x hW hx => ⟨hx, ?_⟩) rfl h
            obtain ⟨cell, q1, q2, q3, -⟩ := (hW.2.1 k hk.2.1 hk.1).1
            exact ⟨cell, q1, by rw [q3]; rfl, by rw [q2]; exact hK.2.1.2.1⟩
          · exact h.elim
        · exact h.elim
      · exact h.elim
    · next np rt hn =>
      split at h
      · next k st' =>
        split at h
        · next hk =>
          split at h
          · next v σ' hv =>
            obtain ⟨y, ws, maxL, hmw, hlink, -, ho, -⟩ := hROW.2.2 _ _ _ _ hn
            refine gj_run (oo := fun A => A (2 * k + 1)) (a0 := .inr (k + 2, 0)) (zz := 0) (as := []) (rt := true) (r := some v) (σ' := σ') hx hb hd hts hown hml hK hR hdc ha hTh hmw hROW.1 hROW.2.1 hlink rfl (Nat.zero_le nn) (ho rfl k v σ σ' hk.2.1 hk.1 hv) hk.2.2 (fun A H x hW hx => ⟨hx, ?_⟩) rfl h
            obtain ⟨cell, q1, q2, q3, -⟩ := (hW.2.1 k hk.2.1 hk.1).1
            exact ⟨cell, q1, by rw [q3]; rfl, by rw [q2]; exact hK.2.1.2.1⟩
          · exact h.elim
        · exact h.elim
      · exact h.elim
    · next np rt hn =>
      split at h
      · next j i k st' =>
        split at h
        · next hk =>
          split at h
          · next σ' hv =>
            obtain ⟨y, ws, maxL, hmw, hlink, -, -, ho⟩ := hROW.2.2 _ _ _ _ hn
            refine gj_run (oo := fun A => A (2 * k + 1)) (a0 := .inr (k + 2, 0)) (zz := 0) (as := [i, j]) (rt := false) (r := some 0) (σ' := σ') hx hb hd hts hown hml hK hR hdc ha hTh hmw hROW.1 hROW.2.1 hlink rfl (Nat.zero_le nn) (ho rfl k i j σ σ' hk.2.1 hk.1 hv) hk.2.2 (fun A H x hW hx => ⟨hx, ?_⟩) rfl h
            obtain ⟨cell, q1, q2, q3, -⟩ := (hW.2.1 k hk.2.1 hk.1).1
            exact ⟨cell, q1, by rw [q3]; rfl, by rw [q2]; exact hK.2.1.2.1⟩
          · exact h.elim
        · exact h.elim
      · exact h.elim
    · exact h.elim
  | invokestatic n =>
    have e1 : len = 3 := hlen (fun _ _ _ _ h => by cases h) (fun _ _ h => by cases h)
    subst e1
    simp only [awp] at h
    split at h
    · next t np rt hn =>
      split at h
      · next as st' hp =>
        obtain ⟨h24, h⟩ := h
        obtain ⟨y, ws, maxL, hmi, hlink⟩ := hMI.2.2.2.2 _ _ _ _ hn
        have hmw := hMI.1 _ _ _ _ _ _ _ hmi
        obtain ⟨bs, g1, g2, -⟩ := pops_st _ _ _ _ _ hp
        have hasl : as.length = np := by rw [g2]; simpa using g1
        cases hr : rec t as σ with
        | none => rw [hr] at h; exact h.elim
        | some q =>
          obtain ⟨r, σ'⟩ := q
          rw [hr] at h
          exact gj_runS hx hb hd hts hown hml hK hR hdc ha hTh hmw hMI.2.1 hMI.2.2.1 hlink hasl (hrec _ _ _ _ _ _ _ hmi as σ r σ' hasl hr) h24 hp h
      · exact h.elim
    · exact h.elim
  | ireturn =>
    have e1 : len = 1 := hlen (fun _ _ _ _ h => by cases h) (fun _ _ h => by cases h)
    subst e1
    simp only [awp] at h
    split at h
    · intro ls stc H locs A hl hst hW hA hF
      obtain ⟨r, e1, h1⟩ := hst.int
      have := h1.nil
      subst this; subst e1
      exact hRi pc _ σ ls H locs A hd h hW hA hF
    · exact h.elim
  | return_ =>
    have e1 : len = 1 := hlen (fun _ _ _ _ h => by cases h) (fun _ _ h => by cases h)
    subst e1
    simp only [awp] at h
    split at h
    · intro ls stc H locs A hl hst hW hA hF
      have := hst.nil
      subst this
      exact hRv pc σ ls H locs A hd h hW hA hF
    · exact h.elim
  | _ => exact h.elim
