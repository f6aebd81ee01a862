/-! tables of methods -/
set_option maxRecDepth 100000
def mMt : List (Nat × Bool × Bool × Bool × Nat × (RC → SX)) := [(1, true, true, false, 3, bM_token),
  (2, true, true, false, 0, bM_clear),
  (3, true, true, false, 0, bM_tokens),
  (4, true, true, false, 0, bM_parse),
  (5, true, true, false, 1, bM_decs),
  (6, true, true, true, 1, bM_is),
  (7, true, true, true, 0, bM_isDeclaration),
  (8, true, true, false, 0, bM_kind),
  (9, true, true, true, 1, bM_eat),
  (10, true, false, false, 0, bM_stop),
  (12, true, true, false, 0, bM_exp),
  (13, true, true, true, 0, bM_isForm),
  (14, true, true, false, 0, bM_form),
  (15, true, false, false, 0, bM_enter),
  (16, true, true, false, 5, bM_make),
  (17, true, true, false, 0, bM_match),
  (18, true, true, false, 0, bM_pat),
  (19, true, true, true, 0, bM_isBare),
  (20, true, true, true, 0, bM_isName),
  (21, true, true, true, 0, bM_isOperator),
  (22, true, true, false, 1, bM_infix),
  (23, true, true, false, 0, bM_applied),
  (24, true, true, true, 0, bM_isId),
  (25, true, true, false, 0, bM_atomicPattern),
  (26, true, true, true, 0, bM_isConstant),
  (27, true, true, false, 1, bM_id),
  (28, true, true, false, 0, bM_recordPattern),
  (29, true, true, false, 1, bM_field),
  (30, true, false, false, 1, bM_checkLabel),
  (31, true, true, true, 0, bM_isLabel),
  (32, true, true, false, 0, bM_label),
  (33, true, false, false, 1, bM_need),
  (34, true, true, false, 2, bM_variable),
  (35, true, true, false, 0, bM_type),
  (36, true, true, false, 0, bM_product),
  (37, true, true, false, 0, bM_appliedType),
  (38, true, true, false, 0, bM_firstType),
  (39, true, true, false, 0, bM_recordType),
  (40, true, false, false, 1, bM_sort),
  (41, false, true, false, 1, bM_rank),
  (42, true, true, false, 1, bM_list),
  (43, true, true, false, 1, bM_placeOf),
  (44, true, true, false, 2, bM_built),
  (45, true, true, true, 0, bM_isConstructor),
  (46, true, true, false, 1, bM_listOf),
  (47, true, true, false, 3, bM_tuple),
  (48, true, true, false, 3, bM_chain),
  (49, true, true, false, 2, bM_name),
  (50, true, true, false, 4, bM_couple),
  (51, true, true, false, 2, bM_listOf_2),
  (52, true, true, true, 0, bM_isAtomicPattern),
  (53, true, true, false, 0, bM_atomic),
  (54, true, true, false, 0, bM_round),
  (55, true, true, false, 2, bM_unit),
  (56, true, true, false, 2, bM_sequence),
  (57, true, true, false, 4, bM_oneCase),
  (58, true, true, false, 3, bM_rule),
  (59, true, false, false, 1, bM_items),
  (60, true, true, false, 0, bM_record),
  (61, true, true, false, 0, bM_freshName),
  (62, true, false, false, 1, bM_undo),
  (63, true, true, true, 0, bM_isAtomic),
  (64, true, false, false, 2, bM_checkOperator),
  (65, true, true, true, 2, bM_bindsFirst),
  (66, true, false, false, 1, bM_join),
  (67, true, true, false, 4, bM_choice),
  (68, true, true, false, 3, bM_loop),
  (69, true, true, false, 1, bM_val),
  (70, true, true, false, 1, bM_typeVariables),
  (71, true, true, false, 1, bM_fun),
  (72, true, true, false, 1, bM_clause),
  (73, true, true, false, 0, bM_head),
  (74, true, true, true, 1, bM_isOperatorAt),
  (75, true, true, true, 0, bM_isBracketed),
  (76, true, true, false, 0, bM_operator),
  (77, true, true, false, 2, bM_nest),
  (78, true, true, false, 1, bM_local),
  (79, true, false, false, 2, bM_settle),
  (80, true, false, false, 2, bM_change),
  (81, true, true, false, 1, bM_abstype),
  (82, true, true, false, 0, bM_shortConstructor),
  (83, true, true, false, 3, bM_datatypes),
  (84, true, true, false, 0, bM_constructors),
  (85, true, true, false, 0, bM_bound),
  (86, true, true, false, 0, bM_typeBindings),
  (87, true, true, false, 2, bM_declaration),
  (88, true, true, false, 1, bM_datatype),
  (89, true, true, false, 0, bM_exceptions),
  (90, true, true, false, 0, bM_opened),
  (91, true, false, false, 1, bM_changeFixities),
  (92, true, false, false, 1, bM_number),
  (93, true, true, true, 2, bM_isPart),
  (94, false, true, false, 1, bM_parts),
  (95, true, false, false, 0, bM_finish),
  (97, true, true, true, 0, bM_retreat),
  (98, true, true, false, 1, bM_fixity),
  (99, true, true, false, 0, bM_nodes),
  (100, true, true, false, 2, bM_node),
  (101, true, true, true, 1, bM_isNode),
  (102, true, true, false, 1, bM_length),
  (103, true, true, true, 1, bM_isList),
  (104, true, true, false, 2, bM_item),
  (105, true, true, false, 1, bM_behind),
  (106, true, true, true, 2, bM_same),
  (107, true, true, false, 0, bM_fresh)]
def aMt : List (Nat × Bool × Bool × Bool × Nat × (ARC → ZX)) := [(5, true, true, false, 1, zM_decs),
  (6, true, true, true, 1, zM_is),
  (7, true, true, true, 0, zM_isDeclaration),
  (8, true, true, false, 0, zM_kind),
  (9, true, true, true, 1, zM_eat),
  (10, true, false, false, 0, zM_stop),
  (12, true, true, false, 0, zM_exp),
  (13, true, true, true, 0, zM_isForm),
  (14, true, true, false, 0, zM_form),
  (15, true, false, false, 0, zM_enter),
  (17, true, true, false, 0, zM_match),
  (18, true, true, false, 0, zM_pat),
  (19, true, true, true, 0, zM_isBare),
  (20, true, true, true, 0, zM_isName),
  (21, true, true, true, 0, zM_isOperator),
  (22, true, true, false, 1, zM_infix),
  (23, true, true, false, 0, zM_applied),
  (24, true, true, true, 0, zM_isId),
  (25, true, true, false, 0, zM_atomicPattern),
  (26, true, true, true, 0, zM_isConstant),
  (27, true, true, false, 1, zM_id),
  (28, true, true, false, 0, zM_recordPattern),
  (29, true, true, false, 1, zM_field),
  (30, true, false, false, 1, zM_checkLabel),
  (31, true, true, true, 0, zM_isLabel),
  (32, true, true, false, 0, zM_label),
  (33, true, false, false, 1, zM_need),
  (34, true, true, false, 2, zM_variable),
  (35, true, true, false, 0, zM_type),
  (36, true, true, false, 0, zM_product),
  (37, true, true, false, 0, zM_appliedType),
  (38, true, true, false, 0, zM_firstType),
  (39, true, true, false, 0, zM_recordType),
  (40, true, false, false, 1, zM_sort),
  (41, false, true, false, 1, zM_rank),
  (42, true, true, false, 1, zM_list),
  (43, true, true, false, 1, zM_placeOf),
  (44, true, true, false, 2, zM_built),
  (45, true, true, true, 0, zM_isConstructor),
  (46, true, true, false, 1, zM_listOf),
  (47, true, true, false, 3, zM_tuple),
  (48, true, true, false, 3, zM_chain),
  (49, true, true, false, 2, zM_name),
  (50, true, true, false, 4, zM_couple),
  (51, true, true, false, 2, zM_listOf_2),
  (52, true, true, true, 0, zM_isAtomicPattern),
  (53, true, true, false, 0, zM_atomic),
  (54, true, true, false, 0, zM_round),
  (55, true, true, false, 2, zM_unit),
  (56, true, true, false, 2, zM_sequence),
  (57, true, true, false, 4, zM_oneCase),
  (58, true, true, false, 3, zM_rule),
  (59, true, false, false, 1, zM_items),
  (60, true, true, false, 0, zM_record),
  (61, true, true, false, 0, zM_freshName),
  (62, true, false, false, 1, zM_undo),
  (63, true, true, true, 0, zM_isAtomic),
  (64, true, false, false, 2, zM_checkOperator),
  (65, true, true, true, 2, zM_bindsFirst),
  (66, true, false, false, 1, zM_join),
  (67, true, true, false, 4, zM_choice),
  (68, true, true, false, 3, zM_loop),
  (69, true, true, false, 1, zM_val),
  (70, true, true, false, 1, zM_typeVariables),
  (71, true, true, false, 1, zM_fun),
  (72, true, true, false, 1, zM_clause),
  (73, true, true, false, 0, zM_head),
  (74, true, true, true, 1, zM_isOperatorAt),
  (76, true, true, false, 0, zM_operator),
  (77, true, true, false, 2, zM_nest),
  (78, true, true, false, 1, zM_local),
  (79, true, false, false, 2, zM_settle),
  (80, true, false, false, 2, zM_change),
  (81, true, true, false, 1, zM_abstype),
  (82, true, true, false, 0, zM_shortConstructor),
  (83, true, true, false, 3, zM_datatypes),
  (84, true, true, false, 0, zM_constructors),
  (85, true, true, false, 0, zM_bound),
  (86, true, true, false, 0, zM_typeBindings),
  (87, true, true, false, 2, zM_declaration),
  (88, true, true, false, 1, zM_datatype),
  (89, true, true, false, 0, zM_exceptions),
  (90, true, true, false, 0, zM_opened),
  (91, true, false, false, 1, zM_changeFixities)]
def recM : Nat → RC
  | 0 => fun _ _ _ => none
  | n + 1 => fun t as σ => if t = 11 then failM as σ else match alook mMt t with
    | some (i, r, b, np, f) => mth i r b np (f (recM n)) as σ
    | none => none
def aM : Nat → ARC
  | 0 => fun _ _ _ => none
  | n + 1 => fun t vs A => if t = 11 then afail vs A else if t = 16 then amk scM.cv ucvM scM.frk vs A else if t = 75 then (if vs.length = 0 then aIsBr (zM_br (aM n)) A else none) else match alook aMt t with
    | some (i, r, b, np, f) => amth i r b np (f (aM n)) vs A
    | none => none
def PEM (e : Nat × Bool × Bool × Bool × Nat × (ARC → ZX)) : Prop := ∃ f, alook mMt e.1 = some (e.2.1, e.2.2.1, e.2.2.2.1, e.2.2.2.2.1, f) ∧ ∀ rec arc, ARM rec arc → SR scM (f rec) (e.2.2.2.2.2 arc)
theorem aMt_ok : ∀ e ∈ aMt, PEM e := List.forall_mem_cons.mpr ⟨⟨bM_decs, rfl, fun _ _ h => zrM_decs h⟩, List.forall_mem_cons.mpr ⟨⟨bM_is, rfl, fun _ _ h => zrM_is h⟩, List.forall_mem_cons.mpr ⟨⟨bM_isDeclaration, rfl, fun _ _ h => zrM_isDeclaration h⟩, List.forall_mem_cons.mpr ⟨⟨bM_kind, rfl, fun _ _ h => zrM_kind h⟩, List.forall_mem_cons.mpr ⟨⟨bM_eat, rfl, fun _ _ h => zrM_eat h⟩, List.forall_mem_cons.mpr ⟨⟨bM_stop, rfl, fun _ _ h => zrM_stop h⟩, List.forall_mem_cons.mpr ⟨⟨bM_exp, rfl, fun _ _ h => zrM_exp h⟩, List.forall_mem_cons.mpr ⟨⟨bM_isForm, rfl, fun _ _ h => zrM_isForm h⟩, List.forall_mem_cons.mpr ⟨⟨bM_form, rfl, fun _ _ h => zrM_form h⟩, List.forall_mem_cons.mpr ⟨⟨bM_enter, rfl, fun _ _ h => zrM_enter h⟩, List.forall_mem_cons.mpr ⟨⟨bM_match, rfl, fun _ _ h => zrM_match h⟩, List.forall_mem_cons.mpr ⟨⟨bM_pat, rfl, fun _ _ h => zrM_pat h⟩, List.forall_mem_cons.mpr ⟨⟨bM_isBare, rfl, fun _ _ h => zrM_isBare h⟩, List.forall_mem_cons.mpr ⟨⟨bM_isName, rfl, fun _ _ h => zrM_isName h⟩, List.forall_mem_cons.mpr ⟨⟨bM_isOperator, rfl, fun _ _ h => zrM_isOperator h⟩, List.forall_mem_cons.mpr ⟨⟨bM_infix, rfl, fun _ _ h => zrM_infix h⟩, List.forall_mem_cons.mpr ⟨⟨bM_applied, rfl, fun _ _ h => zrM_applied h⟩, List.forall_mem_cons.mpr ⟨⟨bM_isId, rfl, fun _ _ h => zrM_isId h⟩, List.forall_mem_cons.mpr ⟨⟨bM_atomicPattern, rfl, fun _ _ h => zrM_atomicPattern h⟩, List.forall_mem_cons.mpr ⟨⟨bM_isConstant, rfl, fun _ _ h => zrM_isConstant h⟩, List.forall_mem_cons.mpr ⟨⟨bM_id, rfl, fun _ _ h => zrM_id h⟩, List.forall_mem_cons.mpr ⟨⟨bM_recordPattern, rfl, fun _ _ h => zrM_recordPattern h⟩, List.forall_mem_cons.mpr ⟨⟨bM_field, rfl, fun _ _ h => zrM_field h⟩, List.forall_mem_cons.mpr ⟨⟨bM_checkLabel, rfl, fun _ _ h => zrM_checkLabel h⟩, List.forall_mem_cons.mpr ⟨⟨bM_isLabel, rfl, fun _ _ h => zrM_isLabel h⟩, List.forall_mem_cons.mpr ⟨⟨bM_label, rfl, fun _ _ h => zrM_label h⟩, List.forall_mem_cons.mpr ⟨⟨bM_need, rfl, fun _ _ h => zrM_need h⟩, List.forall_mem_cons.mpr ⟨⟨bM_variable, rfl, fun _ _ h => zrM_variable h⟩, List.forall_mem_cons.mpr ⟨⟨bM_type, rfl, fun _ _ h => zrM_type h⟩, List.forall_mem_cons.mpr ⟨⟨bM_product, rfl, fun _ _ h => zrM_product h⟩, List.forall_mem_cons.mpr ⟨⟨bM_appliedType, rfl, fun _ _ h => zrM_appliedType h⟩, List.forall_mem_cons.mpr ⟨⟨bM_firstType, rfl, fun _ _ h => zrM_firstType h⟩, List.forall_mem_cons.mpr ⟨⟨bM_recordType, rfl, fun _ _ h => zrM_recordType h⟩, List.forall_mem_cons.mpr ⟨⟨bM_sort, rfl, fun _ _ h => zrM_sort h⟩, List.forall_mem_cons.mpr ⟨⟨bM_rank, rfl, fun _ _ h => zrM_rank h⟩, List.forall_mem_cons.mpr ⟨⟨bM_list, rfl, fun _ _ h => zrM_list h⟩, List.forall_mem_cons.mpr ⟨⟨bM_placeOf, rfl, fun _ _ h => zrM_placeOf h⟩, List.forall_mem_cons.mpr ⟨⟨bM_built, rfl, fun _ _ h => zrM_built h⟩, List.forall_mem_cons.mpr ⟨⟨bM_isConstructor, rfl, fun _ _ h => zrM_isConstructor h⟩, List.forall_mem_cons.mpr ⟨⟨bM_listOf, rfl, fun _ _ h => zrM_listOf h⟩, List.forall_mem_cons.mpr ⟨⟨bM_tuple, rfl, fun _ _ h => zrM_tuple h⟩, List.forall_mem_cons.mpr ⟨⟨bM_chain, rfl, fun _ _ h => zrM_chain h⟩, List.forall_mem_cons.mpr ⟨⟨bM_name, rfl, fun _ _ h => zrM_name h⟩, List.forall_mem_cons.mpr ⟨⟨bM_couple, rfl, fun _ _ h => zrM_couple h⟩, List.forall_mem_cons.mpr ⟨⟨bM_listOf_2, rfl, fun _ _ h => zrM_listOf_2 h⟩, List.forall_mem_cons.mpr ⟨⟨bM_isAtomicPattern, rfl, fun _ _ h => zrM_isAtomicPattern h⟩, List.forall_mem_cons.mpr ⟨⟨bM_atomic, rfl, fun _ _ h => zrM_atomic h⟩, List.forall_mem_cons.mpr ⟨⟨bM_round, rfl, fun _ _ h => zrM_round h⟩, List.forall_mem_cons.mpr ⟨⟨bM_unit, rfl, fun _ _ h => zrM_unit h⟩, List.forall_mem_cons.mpr ⟨⟨bM_sequence, rfl, fun _ _ h => zrM_sequence h⟩, List.forall_mem_cons.mpr ⟨⟨bM_oneCase, rfl, fun _ _ h => zrM_oneCase h⟩, List.forall_mem_cons.mpr ⟨⟨bM_rule, rfl, fun _ _ h => zrM_rule h⟩, List.forall_mem_cons.mpr ⟨⟨bM_items, rfl, fun _ _ h => zrM_items h⟩, List.forall_mem_cons.mpr ⟨⟨bM_record, rfl, fun _ _ h => zrM_record h⟩, List.forall_mem_cons.mpr ⟨⟨bM_freshName, rfl, fun _ _ h => zrM_freshName h⟩, List.forall_mem_cons.mpr ⟨⟨bM_undo, rfl, fun _ _ h => zrM_undo h⟩, List.forall_mem_cons.mpr ⟨⟨bM_isAtomic, rfl, fun _ _ h => zrM_isAtomic h⟩, List.forall_mem_cons.mpr ⟨⟨bM_checkOperator, rfl, fun _ _ h => zrM_checkOperator h⟩, List.forall_mem_cons.mpr ⟨⟨bM_bindsFirst, rfl, fun _ _ h => zrM_bindsFirst h⟩, List.forall_mem_cons.mpr ⟨⟨bM_join, rfl, fun _ _ h => zrM_join h⟩, List.forall_mem_cons.mpr ⟨⟨bM_choice, rfl, fun _ _ h => zrM_choice h⟩, List.forall_mem_cons.mpr ⟨⟨bM_loop, rfl, fun _ _ h => zrM_loop h⟩, List.forall_mem_cons.mpr ⟨⟨bM_val, rfl, fun _ _ h => zrM_val h⟩, List.forall_mem_cons.mpr ⟨⟨bM_typeVariables, rfl, fun _ _ h => zrM_typeVariables h⟩, List.forall_mem_cons.mpr ⟨⟨bM_fun, rfl, fun _ _ h => zrM_fun h⟩, List.forall_mem_cons.mpr ⟨⟨bM_clause, rfl, fun _ _ h => zrM_clause h⟩, List.forall_mem_cons.mpr ⟨⟨bM_head, rfl, fun _ _ h => zrM_head h⟩, List.forall_mem_cons.mpr ⟨⟨bM_isOperatorAt, rfl, fun _ _ h => zrM_isOperatorAt h⟩, List.forall_mem_cons.mpr ⟨⟨bM_operator, rfl, fun _ _ h => zrM_operator h⟩, List.forall_mem_cons.mpr ⟨⟨bM_nest, rfl, fun _ _ h => zrM_nest h⟩, List.forall_mem_cons.mpr ⟨⟨bM_local, rfl, fun _ _ h => zrM_local h⟩, List.forall_mem_cons.mpr ⟨⟨bM_settle, rfl, fun _ _ h => zrM_settle h⟩, List.forall_mem_cons.mpr ⟨⟨bM_change, rfl, fun _ _ h => zrM_change h⟩, List.forall_mem_cons.mpr ⟨⟨bM_abstype, rfl, fun _ _ h => zrM_abstype h⟩, List.forall_mem_cons.mpr ⟨⟨bM_shortConstructor, rfl, fun _ _ h => zrM_shortConstructor h⟩, List.forall_mem_cons.mpr ⟨⟨bM_datatypes, rfl, fun _ _ h => zrM_datatypes h⟩, List.forall_mem_cons.mpr ⟨⟨bM_constructors, rfl, fun _ _ h => zrM_constructors h⟩, List.forall_mem_cons.mpr ⟨⟨bM_bound, rfl, fun _ _ h => zrM_bound h⟩, List.forall_mem_cons.mpr ⟨⟨bM_typeBindings, rfl, fun _ _ h => zrM_typeBindings h⟩, List.forall_mem_cons.mpr ⟨⟨bM_declaration, rfl, fun _ _ h => zrM_declaration h⟩, List.forall_mem_cons.mpr ⟨⟨bM_datatype, rfl, fun _ _ h => zrM_datatype h⟩, List.forall_mem_cons.mpr ⟨⟨bM_exceptions, rfl, fun _ _ h => zrM_exceptions h⟩, List.forall_mem_cons.mpr ⟨⟨bM_opened, rfl, fun _ _ h => zrM_opened h⟩, List.forall_mem_cons.mpr ⟨⟨bM_changeFixities, rfl, fun _ _ h => zrM_changeFixities h⟩, fun _ h => absurd h List.not_mem_nil⟩⟩⟩⟩⟩⟩⟩⟩⟩⟩⟩⟩⟩⟩⟩⟩⟩⟩⟩⟩⟩⟩⟩⟩⟩⟩⟩⟩⟩⟩⟩⟩⟩⟩⟩⟩⟩⟩⟩⟩⟩⟩⟩⟩⟩⟩⟩⟩⟩⟩⟩⟩⟩⟩⟩⟩⟩⟩⟩⟩⟩⟩⟩⟩⟩⟩⟩⟩⟩⟩⟩⟩⟩⟩⟩⟩⟩⟩⟩⟩⟩⟩⟩⟩
theorem aM_rel : ∀ n, ARM (recM n) (aM n) := by
  intro n
  induction n with
  | zero => exact ⟨fun h t vs xs A σ nds _ _ => trivial, fun xs σ r σ' h => by cases h⟩
  | succ n ih =>
    refine ⟨fun hd t vs xs A σ nds hv hS => ?_, fun xs σ r σ' h => makeM_cap (by decide) xs σ r σ' h⟩
    show OKm scM hd nds (if t = 11 then failM xs σ else match alook mMt t with
      | some (i, r, b, np, f) => mth i r b np (f (recM n)) xs σ
      | none => none) (if t = 11 then afail vs A else if t = 16 then amk scM.cv ucvM scM.frk vs A else if t = 75 then (if vs.length = 0 then aIsBr (zM_br (aM n)) A else none) else match alook aMt t with
      | some (i, r, b, np, f) => amth i r b np (f (aM n)) vs A
      | none => none)
    by_cases h1 : t = 11
    · rw [if_pos h1, if_pos h1]
      exact afail_rel hv hS
    rw [if_neg h1, if_neg h1]
    by_cases h2 : t = 16
    · rw [if_pos h2]
      subst h2
      exact amk_rel (run := fun xs σ => mth true true false 5 (bM_make (recM n)) xs σ) makeM hv hS
    rw [if_neg h2]
    by_cases h3 : t = 75
    · rw [if_pos h3]
      subst h3
      by_cases hl : vs.length = 0
      · rw [if_pos hl]
        have e1 : vs = [] := List.length_eq_zero_iff.mp hl
        subst e1
        have e2 : xs = [] := by
          cases xs with
          | nil => rfl
          | cons _ _ => exact hv.elim
        subst e2
        show OKm scM hd nds (mth true true true 0 (bM_isBracketed (recM n)) [] σ) (aIsBr (zM_br (aM n)) A)
        rw [fM_br_eq]
        exact isBr_rel (zrM_br ih) hS
      · rw [if_neg hl]; exact trivial
    rw [if_neg h3]
    cases h4 : alook aMt t with
    | none => exact trivial
    | some e =>
      obtain ⟨i, r, b, np, f⟩ := e
      obtain ⟨f0, q1, q2⟩ := aMt_ok _ (alook_mem h4)
      have q1 : alook mMt t = some (i, r, b, np, f0) := q1
      rw [q1]
      exact mth_rel (q2 _ _ ih) hv hS
