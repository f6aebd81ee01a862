/-! trees that are built -/
abbrev no : V := Term.int (-1)
def tLi : List TR → V
  | [] => no
  | t :: ts => tv (1, tv t, tLi ts, no, t.2.2.2.2)
def tFs (fk p : Int32) : Nat → List TR → List TR
  | _, [] => []
  | i, t :: ts => (fk, .int (nI (i + 1)), tv t, no, p) :: tFs fk p (i + 1) ts
def k33 (k : Int32) : V := if k = 33 then .int 0 else no
def tTup (fk k : Int32) (l : List TR) (p : Int32) : TR := (k, tLi (tFs fk p 0 l), k33 k, no, p)
def tPair (q : Bool) (one two : TR) (p : Int32) : TR := if q then tTup 34 33 [one, two] p else tTup 13 12 [one, two] p
def tName (n p : Int32) : TR := (11, .int n, no, no, p)
def tVar (n p : Int32) : TR := (32, .int n, no, no, p)
def tApp (f x : TR) (p : Int32) : TR := (15, tv f, tv x, no, p)
def tRule (a b : TR) (p : Int32) : TR := (20, tv a, tv b, no, p)
def tFn (rules : V) (p : Int32) : TR := (19, rules, no, no, p)
def tLam (a e : TR) (p : Int32) : TR := tFn (tLi [tRule a e p]) p
def tWild (p : Int32) : TR := (30, no, no, no, p)
def tUnit (p : Int32) : TR := (12, no, no, no, p)
def tChoose (test yes els : TR) (p : Int32) : TR := tApp (tFn (tLi [tRule (tVar 0 p) yes p, tRule (tVar 1 p) els p]) p) test p
/-- one behind the other; the last one is given -/
def tSq (p : Int32) : List TR → TR → TR
  | [], e => e
  | t :: ts, e => tApp (tLam (tWild p) (tSq p ts e) p) t p
def tLoop (v : Int32) (test body : TR) (p : Int32) : TR :=
  let again := tApp (tName v p) (tUnit p) p
  let step := tChoose test (tSq p [body] again) (tUnit p) p
  let f := tLam (33, no, .int 0, no, p) step p
  let bind : TR := (71, tv (tVar v p), tv f, .int 1, p)
  let val : TR := (70, no, tLi [bind], no, p)
  let decs : TR := (84, tLi [val], no, no, p)
  (14, tv decs, tv (tApp (tName v p) (tUnit p) p), no, p)
def tNil (q : Bool) (p : Int32) : TR := if q then tVar 2 p else tName 2 p
def tCons (q : Bool) (h r : TR) (p : Int32) : TR := if q then (35, .int 3, no, tv (tPair q h r p), p) else tApp (tName 3 p) (tPair q h r p) p
def tChain (q : Bool) (p : Int32) : List TR → TR
  | [] => tNil q p
  | t :: ts => tCons q t (tChain q p ts) p
/-- a function of so many variables -/
def tLams (p : Int32) : List Int32 → TR → TR
  | [], e => e
  | v :: vs, e => tLam (tVar v p) (tLams p vs e) p
def frs (v : Nat) : Nat → List Int32
  | 0 => []
  | n + 1 => nI (8192 + v) :: frs (v + 1) n
def tMany (l : List TR) (p : Int32) : TR := match l with
  | [t] => t
  | l => tTup 13 12 l p
def tCur (rules : V) (many v : Nat) (p : Int32) : TR := tLams p (frs v many) (tApp (tFn rules p) (tMany ((frs v many).map fun n => tName n p) p) p)
def ov : Option TR → V
  | none => no
  | some t => tv t
theorem okLi (l : List TR) : okF true (tLi l) = true := by cases l <;> rfl
theorem okOv (o : Option TR) : okF true (ov o) = true := by cases o <;> rfl
theorem ok33 (k : Int32) : okF false (k33 k) = true := by
  unfold k33
  split <;> rfl
theorem nd4 (cv : Int32 → Int32) (t : TR) : ndF cv 4 (tv t) = some (.int t.2.2.2.2) := rfl
theorem nd0 (cv : Int32 → Int32) (t : TR) : ndF cv 0 (tv t) = some (.int t.1) := rfl
theorem nd2 (cv : Int32 → Int32) (t : TR) : ndF cv 2 (tv t) = some t.2.2.1 := rfl
theorem nd3 (cv : Int32 → Int32) (t : TR) : ndF cv 3 (tv t) = some t.2.2.2.1 := rfl
theorem nd1 (cv : Int32 → Int32) (t : TR) (h : ¬ (t.1 = 11 ∨ t.1 = 32)) : ndF cv 1 (tv t) = some t.2.1 := by
  show (if t.1 = 11 ∨ t.1 = 32 then cvA cv t.2.1 else some t.2.1) = _
  rw [if_neg h]
theorem nd1n (cv : Int32 → Int32) (t : TR) (h : t.1 = 11 ∨ t.1 = 32) {i : Int32} (hi : t.2.1 = .int i) : ndF cv 1 (tv t) = some (.int (cv i)) := by
  show (if t.1 = 11 ∨ t.1 = 32 then cvA cv t.2.1 else some t.2.1) = _
  rw [if_pos h, hi]
  rfl
def mkN (j : AS) (n : Nat) : AS := (j.1, j.2.1, j.2.2.1, j.nn + n, j.fl)
theorem mkN_mkN (j : AS) (a b : Nat) : mkN (mkN j a) b = mkN j (a + b) := by
  show (j.1, j.2.1, j.2.2.1, j.nn + a + b, j.fl) = (j.1, j.2.1, j.2.2.1, j.nn + (a + b), j.fl)
  rw [Nat.add_assoc]
theorem mkN_0 (j : AS) : mkN j 0 = j := rfl
theorem mkN_nn (j : AS) (a : Nat) : (mkN j a).nn = j.nn + a := rfl
theorem mkN_fl (j : AS) (a : Nat) : (mkN j a).fl = j.fl := rfl
theorem cons_split {α : Type} (l : List α) : l = [] ∨ ∃ i x, l = i ++ [x] := by
  rcases List.eq_nil_or_concat l with h | ⟨i, x, h⟩
  · exact Or.inl h
  · exact Or.inr ⟨i, x, by simpa using h⟩
/-! kinds -/
theorem pr0_1 : (prt 1).testBit 0 = true := by decide
theorem pr1_1 : (prt 1).testBit 1 = true := by decide
theorem pr2_1 : (prt 1).testBit 2 = false := by decide
theorem pr0_10 : (prt 10).testBit 0 = false := by decide
theorem pr1_10 : (prt 10).testBit 1 = false := by decide
theorem pr2_10 : (prt 10).testBit 2 = false := by decide
theorem pr0_11 : (prt 11).testBit 0 = false := by decide
theorem pr1_11 : (prt 11).testBit 1 = false := by decide
theorem pr2_11 : (prt 11).testBit 2 = false := by decide
theorem pr0_12 : (prt 12).testBit 0 = true := by decide
theorem pr1_12 : (prt 12).testBit 1 = false := by decide
theorem pr2_12 : (prt 12).testBit 2 = false := by decide
theorem pr0_13 : (prt 13).testBit 0 = false := by decide
theorem pr1_13 : (prt 13).testBit 1 = true := by decide
theorem pr2_13 : (prt 13).testBit 2 = false := by decide
theorem pr0_14 : (prt 14).testBit 0 = true := by decide
theorem pr1_14 : (prt 14).testBit 1 = true := by decide
theorem pr2_14 : (prt 14).testBit 2 = false := by decide
theorem pr0_15 : (prt 15).testBit 0 = true := by decide
theorem pr1_15 : (prt 15).testBit 1 = true := by decide
theorem pr2_15 : (prt 15).testBit 2 = false := by decide
theorem pr0_16 : (prt 16).testBit 0 = true := by decide
theorem pr1_16 : (prt 16).testBit 1 = true := by decide
theorem pr2_16 : (prt 16).testBit 2 = false := by decide
theorem pr0_17 : (prt 17).testBit 0 = true := by decide
theorem pr1_17 : (prt 17).testBit 1 = true := by decide
theorem pr2_17 : (prt 17).testBit 2 = false := by decide
theorem pr0_18 : (prt 18).testBit 0 = true := by decide
theorem pr1_18 : (prt 18).testBit 1 = false := by decide
theorem pr2_18 : (prt 18).testBit 2 = false := by decide
theorem pr0_19 : (prt 19).testBit 0 = true := by decide
theorem pr1_19 : (prt 19).testBit 1 = false := by decide
theorem pr2_19 : (prt 19).testBit 2 = false := by decide
theorem pr0_20 : (prt 20).testBit 0 = true := by decide
theorem pr1_20 : (prt 20).testBit 1 = true := by decide
theorem pr2_20 : (prt 20).testBit 2 = false := by decide
theorem pr0_30 : (prt 30).testBit 0 = false := by decide
theorem pr1_30 : (prt 30).testBit 1 = false := by decide
theorem pr2_30 : (prt 30).testBit 2 = false := by decide
theorem pr0_31 : (prt 31).testBit 0 = false := by decide
theorem pr1_31 : (prt 31).testBit 1 = false := by decide
theorem pr2_31 : (prt 31).testBit 2 = false := by decide
theorem pr0_32 : (prt 32).testBit 0 = false := by decide
theorem pr1_32 : (prt 32).testBit 1 = false := by decide
theorem pr2_32 : (prt 32).testBit 2 = false := by decide
theorem pr0_33 : (prt 33).testBit 0 = true := by decide
theorem pr1_33 : (prt 33).testBit 1 = false := by decide
theorem pr2_33 : (prt 33).testBit 2 = false := by decide
theorem pr0_34 : (prt 34).testBit 0 = false := by decide
theorem pr1_34 : (prt 34).testBit 1 = true := by decide
theorem pr2_34 : (prt 34).testBit 2 = false := by decide
theorem pr0_35 : (prt 35).testBit 0 = false := by decide
theorem pr1_35 : (prt 35).testBit 1 = false := by decide
theorem pr2_35 : (prt 35).testBit 2 = true := by decide
theorem pr0_36 : (prt 36).testBit 0 = true := by decide
theorem pr1_36 : (prt 36).testBit 1 = true := by decide
theorem pr2_36 : (prt 36).testBit 2 = false := by decide
theorem pr0_37 : (prt 37).testBit 0 = false := by decide
theorem pr1_37 : (prt 37).testBit 1 = true := by decide
theorem pr2_37 : (prt 37).testBit 2 = true := by decide
theorem pr0_50 : (prt 50).testBit 0 = false := by decide
theorem pr1_50 : (prt 50).testBit 1 = false := by decide
theorem pr2_50 : (prt 50).testBit 2 = false := by decide
theorem pr0_51 : (prt 51).testBit 0 = true := by decide
theorem pr1_51 : (prt 51).testBit 1 = false := by decide
theorem pr2_51 : (prt 51).testBit 2 = false := by decide
theorem pr0_52 : (prt 52).testBit 0 = false := by decide
theorem pr1_52 : (prt 52).testBit 1 = true := by decide
theorem pr2_52 : (prt 52).testBit 2 = false := by decide
theorem pr0_53 : (prt 53).testBit 0 = true := by decide
theorem pr1_53 : (prt 53).testBit 1 = false := by decide
theorem pr2_53 : (prt 53).testBit 2 = false := by decide
theorem pr0_54 : (prt 54).testBit 0 = true := by decide
theorem pr1_54 : (prt 54).testBit 1 = true := by decide
theorem pr2_54 : (prt 54).testBit 2 = false := by decide
theorem pr0_70 : (prt 70).testBit 0 = true := by decide
theorem pr1_70 : (prt 70).testBit 1 = true := by decide
theorem pr2_70 : (prt 70).testBit 2 = false := by decide
theorem pr0_71 : (prt 71).testBit 0 = true := by decide
theorem pr1_71 : (prt 71).testBit 1 = true := by decide
theorem pr2_71 : (prt 71).testBit 2 = false := by decide
theorem pr0_72 : (prt 72).testBit 0 = true := by decide
theorem pr1_72 : (prt 72).testBit 1 = false := by decide
theorem pr2_72 : (prt 72).testBit 2 = false := by decide
theorem pr0_73 : (prt 73).testBit 0 = true := by decide
theorem pr1_73 : (prt 73).testBit 1 = false := by decide
theorem pr2_73 : (prt 73).testBit 2 = true := by decide
theorem pr0_74 : (prt 74).testBit 0 = true := by decide
theorem pr1_74 : (prt 74).testBit 1 = true := by decide
theorem pr2_74 : (prt 74).testBit 2 = false := by decide
theorem pr0_75 : (prt 75).testBit 0 = true := by decide
theorem pr1_75 : (prt 75).testBit 1 = false := by decide
theorem pr2_75 : (prt 75).testBit 2 = true := by decide
theorem pr0_76 : (prt 76).testBit 0 = false := by decide
theorem pr1_76 : (prt 76).testBit 1 = true := by decide
theorem pr2_76 : (prt 76).testBit 2 = false := by decide
theorem pr0_77 : (prt 77).testBit 0 = false := by decide
theorem pr1_77 : (prt 77).testBit 1 = false := by decide
theorem pr2_77 : (prt 77).testBit 2 = false := by decide
theorem pr0_78 : (prt 78).testBit 0 = true := by decide
theorem pr1_78 : (prt 78).testBit 1 = true := by decide
theorem pr2_78 : (prt 78).testBit 2 = true := by decide
theorem pr0_79 : (prt 79).testBit 0 = true := by decide
theorem pr1_79 : (prt 79).testBit 1 = false := by decide
theorem pr2_79 : (prt 79).testBit 2 = false := by decide
theorem pr0_80 : (prt 80).testBit 0 = false := by decide
theorem pr1_80 : (prt 80).testBit 1 = true := by decide
theorem pr2_80 : (prt 80).testBit 2 = false := by decide
theorem pr0_81 : (prt 81).testBit 0 = false := by decide
theorem pr1_81 : (prt 81).testBit 1 = false := by decide
theorem pr2_81 : (prt 81).testBit 2 = false := by decide
theorem pr0_82 : (prt 82).testBit 0 = true := by decide
theorem pr1_82 : (prt 82).testBit 1 = true := by decide
theorem pr2_82 : (prt 82).testBit 2 = false := by decide
theorem pr0_83 : (prt 83).testBit 0 = true := by decide
theorem pr1_83 : (prt 83).testBit 1 = false := by decide
theorem pr2_83 : (prt 83).testBit 2 = false := by decide
theorem pr0_84 : (prt 84).testBit 0 = true := by decide
theorem pr1_84 : (prt 84).testBit 1 = false := by decide
theorem pr2_84 : (prt 84).testBit 2 = false := by decide
theorem okF_tv (b : Bool) (t : TR) : okF b (tv t) = b := rfl
theorem okF_no (b : Bool) : okF b no = true := by cases b <;> rfl
theorem okF_n1 (b : Bool) : okF b (.int (-1)) = true := by cases b <;> rfl
theorem okF_i (i : Int32) : okF false (.int i) = true := rfl
