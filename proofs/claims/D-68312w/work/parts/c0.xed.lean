/-! X: expressions and declarations, all of them -/
section XED
variable {tk : TK}
theorem CoX.up {W : Bool} {c c' s t : Nat} {vs : List V} {p : PA TR} (h : CoX W tk c s t vs p) (hc : c ≤ c') : CoX W tk c' s t vs p := fun k ps f j B hk => h k ps f j B (Nat.le_trans hc hk)
theorem CoG.up {α : Type} {em : α → V} {c c' s t : Nat} {vs : List V} {p : PA α} (h : CoG em tk c s t vs p) (hc : c ≤ c') : CoG em tk c' s t vs p := fun k ps f j B hk => h k ps f j B (Nat.le_trans hc hk)
theorem CoD.up {α : Type} {em : α → V} {c c' t : Nat} {vs : List V} {p : PA α} (h : CoD em tk c t vs p) (hc : c ≤ c') : CoD em tk c' t vs p := fun k ps f j B hk => h k ps f j B (Nat.le_trans hc hk)
/-- the declaration of a stratum -/
noncomputable def pDec' (n : Nat) (tk : TK) : PA (Option TR) := pDec tk (pTy 40 tk) (pPt 40 tk) (pApat tk (pTy 40 tk) (pPt 39 tk)) (pApat tk (pTy 40 tk) (pPt 40 tk)) (pED n tk).1 (pED n tk).2
theorem x_apat {W : Bool} : CoX W tk 495 60 30 [] (pApat tk (pTy 40 tk) (pPt 40 tk)) := by
  obtain ⟨h1, h2⟩ := x_types (W := W) (tk := tk) 40
  obtain ⟨h3, h4⟩ := x_patterns (W := W) (tk := tk) 40
  exact (x_atomicPattern (c := 486) h4 (h3.up (by omega)) (h1.up (by omega)) h2 ((x_inner1 h3).up (by omega))).up (by omega)
theorem x_apat9 {W : Bool} : CoX W tk 495 60 30 [] (pApat tk (pTy 40 tk) (pPt 39 tk)) := by
  obtain ⟨h1, h2⟩ := x_types (W := W) (tk := tk) 40
  obtain ⟨h3, h4⟩ := x_patterns (W := W) (tk := tk) 39
  exact (x_atomicPattern (c := 486) h4 (h3.up (by omega)) (h1.up (by omega)) h2 ((x_inner1 h3).up (by omega))).up (by omega)
theorem x_dec' {n : Nat} (hE : CoX false tk (500 + 20 * n) 30 53 [.int 0] (pED n tk).1) (hEg : PGr tk (pED n tk).1) (hD : CoD tv tk (500 + 20 * n) 78 [] (pED n tk).2) (hDg : PGh tk (pED n tk).2) {m o : Nat} {gg : (Nat × List V) × (Nat × List V)} (hm : 510 + 20 * n ≤ m) : DecX tk m o gg (pDec' n tk) := by
  obtain ⟨h1, h2⟩ := x_types (W := false) (tk := tk) 40
  obtain ⟨h3, h4⟩ := x_patterns (W := false) (tk := tk) 40
  exact x_dec (c := 500 + 20 * n) h2 (h1.up (by omega)) h4 (h3.up (by omega)) (x_apat9.up (by omega)) pgt_grT (x_apat.up (by omega)) pgt_grT hEg hE hDg hD (by omega)
theorem x_ED : ∀ n, (CoX false tk (500 + 20 * n) 30 53 [.int 0] (pED n tk).1 ∧ PGr tk (pED n tk).1) ∧ CoD tv tk (500 + 20 * n) 78 [] (pED n tk).2 ∧ PGh tk (pED n tk).2 := by
  intro n
  induction n with
  | zero => exact ⟨⟨fun _ _ _ _ _ _ _ _ => trivial, fun _ _ _ _ h => by cases h⟩, fun _ _ _ _ _ _ _ _ => trivial, fun _ _ _ _ h => by cases h⟩
  | succ n ih =>
    obtain ⟨⟨hE, hEg⟩, hD, hDg⟩ := ih
    obtain ⟨h1, h2⟩ := x_types (W := false) (tk := tk) 40
    obtain ⟨h3, h4⟩ := x_patterns (W := false) (tk := tk) 40
    refine ⟨⟨?_, pgr_grE⟩, ?_, pgh_grD⟩
    · have hM := x_match (c := 500 + 20 * n) h4 (h3.up (by omega)) hEg hE
      have ha := x_atom (c := 500 + 20 * n) hEg hE hDg hD
      have hap := x_application pgr_grE ha
      have hI := x_infix (q := false) (W := false) pgr_grE hap
      exact (x_e0 (c := 506 + 20 * n) h2 (h1.up (by omega)) hEg (hE.up (by omega)) (hM.up (by omega)) (hI.up (by omega))).up (by omega)
    · exact (x_decs (c := 510 + 20 * n) fun m hm o gg => x_dec' hE hEg hD hDg hm).up (by omega)
end XED
