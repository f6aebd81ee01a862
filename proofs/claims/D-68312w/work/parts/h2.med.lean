/-! M: expressions and declarations, all of them -/
section MED
variable {tk : TK}
theorem CoM.up {α : Type} {W : Bool} {em : α → V} {c c' s t : Nat} {vs : List V} {p : PA α} (h : CoM W em tk c s t vs p) (hc : c ≤ c') : CoM W em tk c' s t vs p := fun k ps f j B hk => h k ps f j B (Nat.le_trans hc hk)
theorem CoP.up {W : Bool} {c c' s t : Nat} {vs : List V} {p : PA TR} (h : CoP W tk c s t vs p) (hc : c ≤ c') : CoP W tk c' s t vs p := fun k ps f j B hk => h k ps f j B (Nat.le_trans hc hk)
theorem CoMD.up {α : Type} {em : α → V} {c c' t : Nat} {vs : List V} {p : PA α} (h : CoMD em tk c t vs p) (hc : c ≤ c') : CoMD em tk c' t vs p := fun k ps f j B hk => h k ps f j B (Nat.le_trans hc hk)
theorem grT_ff {α : Type} {p : PA α} {ps : PS} {e : FT} (h : grT tk p ps = some (.inr e)) : e.2.2 = ps.2.2.2 := by
  unfold grT at h
  split at h
  · cases h
  · split at h
    · next hc => cases h; exact hc
    · cases h
  · split at h <;> cases h
theorem m_apat {W : Bool} (n : Nat) (hn : n ≤ 40) : CoM W tv tk 1005 60 25 [] (pApat tk (pTy 40 tk) (pPt n tk)) :=
  (m_atomicPattern (c := 1001) (x_patterns (W := W) n).2 ((m_patterns n).up (by omega)) (x_types (W := W) 40).2 ((m_types 40).up (by omega))).up (by omega)
theorem m_dec' {n : Nat} (hE : CoM false tv tk (1010 + 12 * n) 30 12 [] (pED n tk).1) (hD : CoMD tv tk (1010 + 12 * n) 5 [.int 0] (pED n tk).2) {m : Nat} (hm : 1018 + 12 * n ≤ m) : DecM tk m (pDec' n tk) := by
  obtain ⟨⟨_, hEg⟩, _, hDg⟩ := x_ED (tk := tk) n
  refine m_dec (c := 1010 + 12 * n) (x_types (W := false) 40).2 ((m_types 40).up (by omega)) ((m_types 40).up (by omega)) (x_patterns (W := false) 40).2 ((m_patterns 40).up (by omega)) ((m_apat 39 (by omega)).up (by omega)) pgt_grT (fun ps e h => grT_ff h) (fun ps h => apat_no h) (fun ps e h33 h => try_flt h33 h) ((m_apat 40 (by omega)).up (by omega)) pgt_grT hEg hE hDg hD (by omega)
theorem m_ED : ∀ n, CoM false tv tk (1010 + 12 * n) 30 12 [] (pED n tk).1 ∧ CoMD tv tk (1010 + 12 * n) 5 [.int 0] (pED n tk).2 := by
  intro n
  induction n with
  | zero => exact ⟨fun _ _ _ _ _ _ _ _ => trivial, fun _ _ _ _ _ _ _ _ => trivial⟩
  | succ n ih =>
    obtain ⟨hE, hD⟩ := ih
    obtain ⟨⟨_, hEg⟩, _, hDg⟩ := x_ED (tk := tk) n
    refine ⟨?_, ?_⟩
    · have hM := m_match (c := 1010 + 12 * n) (x_patterns (W := false) 40).2 ((m_patterns 40).up (by omega)) hEg hE
      have ha := m_atomic (c := 1010 + 12 * n) hEg hE hDg hD
      have hI := m_infix (q := false) (W := false) (tk := tk) (opd := pApp tk (pAtom tk (pED n tk).1 (pED n tk).2)) (c := 1014 + 12 * n) (fun m hm => opd_exp pgr_grE ha (by omega))
      exact (m_exp (c := 1016 + 12 * n) (x_types (W := false) 40).2 ((m_types 40).up (by omega)) hEg (hE.up (by omega)) (endq_ED n) (hM.up (by omega)) (hI.up (by omega))).up (by omega)
    · exact (m_decs (c := 1018 + 12 * n) (fun m hm => m_dec' hE hD hm) pgg_grE).up (by omega)
/-- M's program over the strata -/
theorem m_prog {N : Nat} (k : Nat) (ps : PS) (f : FM) (j : AS) (B : Nat) (hk : 1020 + 12 * N ≤ k) (hP : PRM tk ps f j k) (hB : j.nn + 100 * (Tn tk - ps.1) + 1 ≤ B) : CTm false tv tk f j B (aM k 5 [.int 1] (stM ps f j)) (pb (pPrg tk (pDec' N tk) (pED N tk).1 LF true) (fun l => pret (84, tLi l, no, no, nI ps.1)) ps) := by
  obtain ⟨hE, hD⟩ := m_ED (tk := tk) N
  exact m_program (c := 1018 + 12 * N) (fun m hm => m_dec' hE hD hm) pgg_grE (x_ED (tk := tk) N).1.2 (hE.up (by omega)) k ps f j B (by omega) hP hB
theorem x_prog {N : Nat} : CoD tv tk (515 + 20 * N) 8 [] (pb (pPrg tk (pDec' N tk) (pED N tk).1 LF true) fun l => pret (84, tLi l, no, no, 0)) := by
  obtain ⟨⟨hE, hEg⟩, hD, hDg⟩ := x_ED (tk := tk) N
  exact (x_program (c := 510 + 20 * N) (fun m hm o gg => x_dec' hE hEg hD hDg hm) hEg (hE.up (by omega))).up (by omega)
end MED
