/-! tables of methods -/
set_option maxRecDepth 100000
def mXt : List (Nat × Bool × Bool × Bool × Nat × (RC → SX)) := [(1, true, false, false, 3, bX_fix),
  (2, true, true, true, 3, bX_isToken),
  (3, true, true, true, 0, bX_isFull),
  (4, true, false, false, 3, bX_add),
  (5, true, true, false, 0, bX_clear),
  (6, true, true, true, 0, bX_parse),
  (7, true, false, false, 1, bX_cut),
  (8, true, true, false, 0, bX_program),
  (9, true, true, false, 0, bX_kind),
  (10, true, true, true, 1, bX_takes),
  (11, true, true, true, 1, bX_isSign),
  (12, true, true, false, 0, bX_value),
  (13, true, true, true, 0, bX_beginsDec),
  (14, true, false, false, 0, bX_dec),
  (15, true, false, false, 0, bX_enter),
  (16, true, false, false, 2, bX_must),
  (18, true, true, false, 1, bX_valDec),
  (19, true, true, false, 1, bX_typeVariables),
  (20, true, true, false, 0, bX_typeVariable),
  (21, true, true, false, 5, bX_make),
  (22, true, true, false, 1, bX_single),
  (23, true, true, false, 1, bX_kindBehind),
  (24, true, false, false, 1, bX_need),
  (25, true, true, false, 1, bX_list),
  (26, true, true, false, 0, bX_pattern),
  (27, true, true, false, 1, bX_infix),
  (28, true, true, false, 0, bX_applied),
  (29, true, true, true, 1, bX_isName),
  (30, true, true, false, 0, bX_atomicPattern),
  (31, true, true, true, 0, bX_isConstant),
  (32, true, true, false, 2, bX_identifier),
  (33, true, true, true, 1, bX_isOperator),
  (34, true, true, false, 0, bX_recordPattern),
  (35, true, false, false, 1, bX_fieldPattern),
  (36, true, true, false, 1, bX_newLabel),
  (37, true, true, false, 0, bX_label),
  (38, true, true, false, 0, bX_type),
  (39, true, true, false, 0, bX_product),
  (40, true, true, false, 0, bX_constructed),
  (41, true, true, false, 0, bX_recordType),
  (42, true, false, false, 5, bX_field),
  (43, false, true, true, 2, bX_isBefore),
  (44, true, true, false, 0, bX_bracketedType),
  (45, true, true, false, 2, bX_tycon),
  (46, true, true, true, 0, bX_isTycon),
  (47, true, true, false, 4, bX_tuple),
  (48, true, true, false, 3, bX_layer),
  (49, false, true, true, 1, bX_isProtected),
  (50, true, true, false, 2, bX_variable),
  (51, true, true, false, 1, bX_brackets),
  (52, true, true, false, 1, bX_inner),
  (53, true, true, false, 1, bX_exp),
  (54, true, true, false, 0, bX_form),
  (55, true, true, false, 0, bX_match),
  (56, true, true, false, 3, bX_rule),
  (57, true, true, false, 2, bX_function),
  (58, true, true, false, 1, bX_casing),
  (59, true, true, false, 3, bX_apply),
  (60, true, true, false, 1, bX_choice),
  (61, true, true, false, 4, bX_choose),
  (62, true, true, false, 1, bX_looping),
  (63, true, true, false, 3, bX_loop),
  (64, true, true, false, 0, bX_freshName),
  (65, true, true, false, 2, bX_name),
  (66, true, true, false, 1, bX_unit),
  (67, true, true, false, 2, bX_sequence),
  (68, true, true, false, 3, bX_lambda),
  (69, true, true, false, 1, bX_elements),
  (70, true, true, false, 3, bX_chain),
  (71, true, true, false, 4, bX_pair),
  (72, true, true, true, 0, bX_beginsAtomicPattern),
  (73, true, true, false, 0, bX_application),
  (74, true, true, false, 0, bX_atom),
  (75, true, true, false, 0, bX_recordExp),
  (76, true, true, false, 0, bX_selector),
  (77, true, true, false, 0, bX_let),
  (78, true, true, false, 0, bX_decs),
  (79, true, false, false, 1, bX_back),
  (80, true, true, true, 0, bX_beginsAtom),
  (81, true, true, true, 1, bX_isFirst),
  (82, true, false, false, 1, bX_reduce),
  (83, true, true, true, 1, bX_isOpAt),
  (84, true, true, false, 1, bX_functions),
  (85, true, true, false, 0, bX_clauses),
  (86, true, false, false, 0, bX_head),
  (87, true, false, false, 1, bX_arguments),
  (88, true, true, true, 0, bX_inBrackets),
  (89, true, true, false, 3, bX_curried),
  (90, true, true, false, 0, bX_typeBindings),
  (91, true, true, false, 0, bX_shortTycon),
  (92, true, true, false, 1, bX_datatype),
  (93, true, true, false, 3, bX_dataBindings),
  (94, true, true, false, 0, bX_constructors),
  (95, true, true, false, 0, bX_newName),
  (96, true, true, false, 0, bX_ofType),
  (97, true, true, false, 0, bX_withTypes),
  (98, true, true, false, 1, bX_abstype),
  (99, true, true, false, 0, bX_exceptions),
  (100, true, true, false, 1, bX_local),
  (101, true, false, false, 2, bX_forget),
  (102, true, false, false, 2, bX_change),
  (103, true, true, false, 0, bX_opened),
  (104, true, false, false, 1, bX_directive),
  (105, true, false, false, 1, bX_sort),
  (106, true, true, false, 2, bX_child),
  (107, false, true, false, 1, bX_children),
  (108, true, true, false, 2, bX_part),
  (109, true, false, false, 1, bX_point),
  (110, true, false, false, 2, bX_exchange),
  (111, true, false, false, 1, bX_rename),
  (112, true, false, false, 1, bX_drop),
  (113, true, true, false, 0, bX_nodes),
  (114, true, true, true, 0, bX_retreat),
  (115, true, true, true, 1, bX_isNode),
  (116, true, true, false, 2, bX_node),
  (117, true, true, false, 1, bX_behind),
  (118, true, true, true, 2, bX_same)]
def aXt : List (Nat × Bool × Bool × Bool × Nat × (ARC → ZX)) := [(8, true, true, false, 0, zX_program),
  (9, true, true, false, 0, zX_kind),
  (10, true, true, true, 1, zX_takes),
  (11, true, true, true, 1, zX_isSign),
  (12, true, true, false, 0, zX_value),
  (13, true, true, true, 0, zX_beginsDec),
  (14, true, false, false, 0, zX_dec),
  (15, true, false, false, 0, zX_enter),
  (16, true, false, false, 2, zX_must),
  (18, true, true, false, 1, zX_valDec),
  (19, true, true, false, 1, zX_typeVariables),
  (20, true, true, false, 0, zX_typeVariable),
  (22, true, true, false, 1, zX_single),
  (23, true, true, false, 1, zX_kindBehind),
  (24, true, false, false, 1, zX_need),
  (25, true, true, false, 1, zX_list),
  (26, true, true, false, 0, zX_pattern),
  (27, true, true, false, 1, zX_infix),
  (28, true, true, false, 0, zX_applied),
  (29, true, true, true, 1, zX_isName),
  (30, true, true, false, 0, zX_atomicPattern),
  (31, true, true, true, 0, zX_isConstant),
  (32, true, true, false, 2, zX_identifier),
  (33, true, true, true, 1, zX_isOperator),
  (34, true, true, false, 0, zX_recordPattern),
  (35, true, false, false, 1, zX_fieldPattern),
  (36, true, true, false, 1, zX_newLabel),
  (37, true, true, false, 0, zX_label),
  (38, true, true, false, 0, zX_type),
  (39, true, true, false, 0, zX_product),
  (40, true, true, false, 0, zX_constructed),
  (41, true, true, false, 0, zX_recordType),
  (42, true, false, false, 5, zX_field),
  (43, false, true, true, 2, zX_isBefore),
  (44, true, true, false, 0, zX_bracketedType),
  (45, true, true, false, 2, zX_tycon),
  (46, true, true, true, 0, zX_isTycon),
  (47, true, true, false, 4, zX_tuple),
  (48, true, true, false, 3, zX_layer),
  (49, false, true, true, 1, zX_isProtected),
  (50, true, true, false, 2, zX_variable),
  (51, true, true, false, 1, zX_brackets),
  (52, true, true, false, 1, zX_inner),
  (53, true, true, false, 1, zX_exp),
  (54, true, true, false, 0, zX_form),
  (55, true, true, false, 0, zX_match),
  (56, true, true, false, 3, zX_rule),
  (57, true, true, false, 2, zX_function),
  (58, true, true, false, 1, zX_casing),
  (59, true, true, false, 3, zX_apply),
  (60, true, true, false, 1, zX_choice),
  (61, true, true, false, 4, zX_choose),
  (62, true, true, false, 1, zX_looping),
  (63, true, true, false, 3, zX_loop),
  (64, true, true, false, 0, zX_freshName),
  (65, true, true, false, 2, zX_name),
  (66, true, true, false, 1, zX_unit),
  (67, true, true, false, 2, zX_sequence),
  (68, true, true, false, 3, zX_lambda),
  (69, true, true, false, 1, zX_elements),
  (70, true, true, false, 3, zX_chain),
  (71, true, true, false, 4, zX_pair),
  (72, true, true, true, 0, zX_beginsAtomicPattern),
  (73, true, true, false, 0, zX_application),
  (74, true, true, false, 0, zX_atom),
  (75, true, true, false, 0, zX_recordExp),
  (76, true, true, false, 0, zX_selector),
  (77, true, true, false, 0, zX_let),
  (78, true, true, false, 0, zX_decs),
  (79, true, false, false, 1, zX_back),
  (80, true, true, true, 0, zX_beginsAtom),
  (81, true, true, true, 1, zX_isFirst),
  (82, true, false, false, 1, zX_reduce),
  (83, true, true, true, 1, zX_isOpAt),
  (84, true, true, false, 1, zX_functions),
  (85, true, true, false, 0, zX_clauses),
  (86, true, false, false, 0, zX_head),
  (87, true, false, false, 1, zX_arguments),
  (89, true, true, false, 3, zX_curried),
  (90, true, true, false, 0, zX_typeBindings),
  (91, true, true, false, 0, zX_shortTycon),
  (92, true, true, false, 1, zX_datatype),
  (93, true, true, false, 3, zX_dataBindings),
  (94, true, true, false, 0, zX_constructors),
  (95, true, true, false, 0, zX_newName),
  (96, true, true, false, 0, zX_ofType),
  (97, true, true, false, 0, zX_withTypes),
  (98, true, true, false, 1, zX_abstype),
  (99, true, true, false, 0, zX_exceptions),
  (100, true, true, false, 1, zX_local),
  (101, true, false, false, 2, zX_forget),
  (102, true, false, false, 2, zX_change),
  (103, true, true, false, 0, zX_opened),
  (104, true, false, false, 1, zX_directive)]
def recX : Nat → RC
  | 0 => fun _ _ _ => none
  | n + 1 => fun t as σ => if t = 17 then fltX as σ else match alook mXt t with
    | some (i, r, b, np, f) => mth i r b np (f (recX n)) as σ
    | none => none
def aX : Nat → ARC
  | 0 => fun _ _ _ => none
  | n + 1 => fun t vs A => if t = 17 then aflt vs A else if t = 21 then amk scX.cv (fun i => i) scX.frk vs A else if t = 88 then (if vs.length = 0 then aInBr (zX_br (aX n)) A else none) else match alook aXt t with
    | some (i, r, b, np, f) => amth i r b np (f (aX n)) vs A
    | none => none
def PEX (e : Nat × Bool × Bool × Bool × Nat × (ARC → ZX)) : Prop := ∃ f, alook mXt e.1 = some (e.2.1, e.2.2.1, e.2.2.2.1, e.2.2.2.2.1, f) ∧ ∀ rec arc, ARX rec arc → SR scX (f rec) (e.2.2.2.2.2 arc)
theorem aXt_ok : ∀ e ∈ aXt, PEX e := List.forall_mem_cons.mpr ⟨⟨bX_program, rfl, fun _ _ h => zrX_program h⟩, List.forall_mem_cons.mpr ⟨⟨bX_kind, rfl, fun _ _ h => zrX_kind h⟩, List.forall_mem_cons.mpr ⟨⟨bX_takes, rfl, fun _ _ h => zrX_takes h⟩, List.forall_mem_cons.mpr ⟨⟨bX_isSign, rfl, fun _ _ h => zrX_isSign h⟩, List.forall_mem_cons.mpr ⟨⟨bX_value, rfl, fun _ _ h => zrX_value h⟩, List.forall_mem_cons.mpr ⟨⟨bX_beginsDec, rfl, fun _ _ h => zrX_beginsDec h⟩, List.forall_mem_cons.mpr ⟨⟨bX_dec, rfl, fun _ _ h => zrX_dec h⟩, List.forall_mem_cons.mpr ⟨⟨bX_enter, rfl, fun _ _ h => zrX_enter h⟩, List.forall_mem_cons.mpr ⟨⟨bX_must, rfl, fun _ _ h => zrX_must h⟩, List.forall_mem_cons.mpr ⟨⟨bX_valDec, rfl, fun _ _ h => zrX_valDec h⟩, List.forall_mem_cons.mpr ⟨⟨bX_typeVariables, rfl, fun _ _ h => zrX_typeVariables h⟩, List.forall_mem_cons.mpr ⟨⟨bX_typeVariable, rfl, fun _ _ h => zrX_typeVariable h⟩, List.forall_mem_cons.mpr ⟨⟨bX_single, rfl, fun _ _ h => zrX_single h⟩, List.forall_mem_cons.mpr ⟨⟨bX_kindBehind, rfl, fun _ _ h => zrX_kindBehind h⟩, List.forall_mem_cons.mpr ⟨⟨bX_need, rfl, fun _ _ h => zrX_need h⟩, List.forall_mem_cons.mpr ⟨⟨bX_list, rfl, fun _ _ h => zrX_list h⟩, List.forall_mem_cons.mpr ⟨⟨bX_pattern, rfl, fun _ _ h => zrX_pattern h⟩, List.forall_mem_cons.mpr ⟨⟨bX_infix, rfl, fun _ _ h => zrX_infix h⟩, List.forall_mem_cons.mpr ⟨⟨bX_applied, rfl, fun _ _ h => zrX_applied h⟩, List.forall_mem_cons.mpr ⟨⟨bX_isName, rfl, fun _ _ h => zrX_isName h⟩, List.forall_mem_cons.mpr ⟨⟨bX_atomicPattern, rfl, fun _ _ h => zrX_atomicPattern h⟩, List.forall_mem_cons.mpr ⟨⟨bX_isConstant, rfl, fun _ _ h => zrX_isConstant h⟩, List.forall_mem_cons.mpr ⟨⟨bX_identifier, rfl, fun _ _ h => zrX_identifier h⟩, List.forall_mem_cons.mpr ⟨⟨bX_isOperator, rfl, fun _ _ h => zrX_isOperator h⟩, List.forall_mem_cons.mpr ⟨⟨bX_recordPattern, rfl, fun _ _ h => zrX_recordPattern h⟩, List.forall_mem_cons.mpr ⟨⟨bX_fieldPattern, rfl, fun _ _ h => zrX_fieldPattern h⟩, List.forall_mem_cons.mpr ⟨⟨bX_newLabel, rfl, fun _ _ h => zrX_newLabel h⟩, List.forall_mem_cons.mpr ⟨⟨bX_label, rfl, fun _ _ h => zrX_label h⟩, List.forall_mem_cons.mpr ⟨⟨bX_type, rfl, fun _ _ h => zrX_type h⟩, List.forall_mem_cons.mpr ⟨⟨bX_product, rfl, fun _ _ h => zrX_product h⟩, List.forall_mem_cons.mpr ⟨⟨bX_constructed, rfl, fun _ _ h => zrX_constructed h⟩, List.forall_mem_cons.mpr ⟨⟨bX_recordType, rfl, fun _ _ h => zrX_recordType h⟩, List.forall_mem_cons.mpr ⟨⟨bX_field, rfl, fun _ _ h => zrX_field h⟩, List.forall_mem_cons.mpr ⟨⟨bX_isBefore, rfl, fun _ _ h => zrX_isBefore h⟩, List.forall_mem_cons.mpr ⟨⟨bX_bracketedType, rfl, fun _ _ h => zrX_bracketedType h⟩, List.forall_mem_cons.mpr ⟨⟨bX_tycon, rfl, fun _ _ h => zrX_tycon h⟩, List.forall_mem_cons.mpr ⟨⟨bX_isTycon, rfl, fun _ _ h => zrX_isTycon h⟩, List.forall_mem_cons.mpr ⟨⟨bX_tuple, rfl, fun _ _ h => zrX_tuple h⟩, List.forall_mem_cons.mpr ⟨⟨bX_layer, rfl, fun _ _ h => zrX_layer h⟩, List.forall_mem_cons.mpr ⟨⟨bX_isProtected, rfl, fun _ _ h => zrX_isProtected h⟩, List.forall_mem_cons.mpr ⟨⟨bX_variable, rfl, fun _ _ h => zrX_variable h⟩, List.forall_mem_cons.mpr ⟨⟨bX_brackets, rfl, fun _ _ h => zrX_brackets h⟩, List.forall_mem_cons.mpr ⟨⟨bX_inner, rfl, fun _ _ h => zrX_inner h⟩, List.forall_mem_cons.mpr ⟨⟨bX_exp, rfl, fun _ _ h => zrX_exp h⟩, List.forall_mem_cons.mpr ⟨⟨bX_form, rfl, fun _ _ h => zrX_form h⟩, List.forall_mem_cons.mpr ⟨⟨bX_match, rfl, fun _ _ h => zrX_match h⟩, List.forall_mem_cons.mpr ⟨⟨bX_rule, rfl, fun _ _ h => zrX_rule h⟩, List.forall_mem_cons.mpr ⟨⟨bX_function, rfl, fun _ _ h => zrX_function h⟩, List.forall_mem_cons.mpr ⟨⟨bX_casing, rfl, fun _ _ h => zrX_casing h⟩, List.forall_mem_cons.mpr ⟨⟨bX_apply, rfl, fun _ _ h => zrX_apply h⟩, List.forall_mem_cons.mpr ⟨⟨bX_choice, rfl, fun _ _ h => zrX_choice h⟩, List.forall_mem_cons.mpr ⟨⟨bX_choose, rfl, fun _ _ h => zrX_choose h⟩, List.forall_mem_cons.mpr ⟨⟨bX_looping, rfl, fun _ _ h => zrX_looping h⟩, List.forall_mem_cons.mpr ⟨⟨bX_loop, rfl, fun _ _ h => zrX_loop h⟩, List.forall_mem_cons.mpr ⟨⟨bX_freshName, rfl, fun _ _ h => zrX_freshName h⟩, List.forall_mem_cons.mpr ⟨⟨bX_name, rfl, fun _ _ h => zrX_name h⟩, List.forall_mem_cons.mpr ⟨⟨bX_unit, rfl, fun _ _ h => zrX_unit h⟩, List.forall_mem_cons.mpr ⟨⟨bX_sequence, rfl, fun _ _ h => zrX_sequence h⟩, List.forall_mem_cons.mpr ⟨⟨bX_lambda, rfl, fun _ _ h => zrX_lambda h⟩, List.forall_mem_cons.mpr ⟨⟨bX_elements, rfl, fun _ _ h => zrX_elements h⟩, List.forall_mem_cons.mpr ⟨⟨bX_chain, rfl, fun _ _ h => zrX_chain h⟩, List.forall_mem_cons.mpr ⟨⟨bX_pair, rfl, fun _ _ h => zrX_pair h⟩, List.forall_mem_cons.mpr ⟨⟨bX_beginsAtomicPattern, rfl, fun _ _ h => zrX_beginsAtomicPattern h⟩, List.forall_mem_cons.mpr ⟨⟨bX_application, rfl, fun _ _ h => zrX_application h⟩, List.forall_mem_cons.mpr ⟨⟨bX_atom, rfl, fun _ _ h => zrX_atom h⟩, List.forall_mem_cons.mpr ⟨⟨bX_recordExp, rfl, fun _ _ h => zrX_recordExp h⟩, List.forall_mem_cons.mpr ⟨⟨bX_selector, rfl, fun _ _ h => zrX_selector h⟩, List.forall_mem_cons.mpr ⟨⟨bX_let, rfl, fun _ _ h => zrX_let h⟩, List.forall_mem_cons.mpr ⟨⟨bX_decs, rfl, fun _ _ h => zrX_decs h⟩, List.forall_mem_cons.mpr ⟨⟨bX_back, rfl, fun _ _ h => zrX_back h⟩, List.forall_mem_cons.mpr ⟨⟨bX_beginsAtom, rfl, fun _ _ h => zrX_beginsAtom h⟩, List.forall_mem_cons.mpr ⟨⟨bX_isFirst, rfl, fun _ _ h => zrX_isFirst h⟩, List.forall_mem_cons.mpr ⟨⟨bX_reduce, rfl, fun _ _ h => zrX_reduce h⟩, List.forall_mem_cons.mpr ⟨⟨bX_isOpAt, rfl, fun _ _ h => zrX_isOpAt h⟩, List.forall_mem_cons.mpr ⟨⟨bX_functions, rfl, fun _ _ h => zrX_functions h⟩, List.forall_mem_cons.mpr ⟨⟨bX_clauses, rfl, fun _ _ h => zrX_clauses h⟩, List.forall_mem_cons.mpr ⟨⟨bX_head, rfl, fun _ _ h => zrX_head h⟩, List.forall_mem_cons.mpr ⟨⟨bX_arguments, rfl, fun _ _ h => zrX_arguments h⟩, List.forall_mem_cons.mpr ⟨⟨bX_curried, rfl, fun _ _ h => zrX_curried h⟩, List.forall_mem_cons.mpr ⟨⟨bX_typeBindings, rfl, fun _ _ h => zrX_typeBindings h⟩, List.forall_mem_cons.mpr ⟨⟨bX_shortTycon, rfl, fun _ _ h => zrX_shortTycon h⟩, List.forall_mem_cons.mpr ⟨⟨bX_datatype, rfl, fun _ _ h => zrX_datatype h⟩, List.forall_mem_cons.mpr ⟨⟨bX_dataBindings, rfl, fun _ _ h => zrX_dataBindings h⟩, List.forall_mem_cons.mpr ⟨⟨bX_constructors, rfl, fun _ _ h => zrX_constructors h⟩, List.forall_mem_cons.mpr ⟨⟨bX_newName, rfl, fun _ _ h => zrX_newName h⟩, List.forall_mem_cons.mpr ⟨⟨bX_ofType, rfl, fun _ _ h => zrX_ofType h⟩, List.forall_mem_cons.mpr ⟨⟨bX_withTypes, rfl, fun _ _ h => zrX_withTypes h⟩, List.forall_mem_cons.mpr ⟨⟨bX_abstype, rfl, fun _ _ h => zrX_abstype h⟩, List.forall_mem_cons.mpr ⟨⟨bX_exceptions, rfl, fun _ _ h => zrX_exceptions h⟩, List.forall_mem_cons.mpr ⟨⟨bX_local, rfl, fun _ _ h => zrX_local h⟩, List.forall_mem_cons.mpr ⟨⟨bX_forget, rfl, fun _ _ h => zrX_forget h⟩, List.forall_mem_cons.mpr ⟨⟨bX_change, rfl, fun _ _ h => zrX_change h⟩, List.forall_mem_cons.mpr ⟨⟨bX_opened, rfl, fun _ _ h => zrX_opened h⟩, List.forall_mem_cons.mpr ⟨⟨bX_directive, rfl, fun _ _ h => zrX_directive h⟩, fun _ h => absurd h List.not_mem_nil⟩⟩⟩⟩⟩⟩⟩⟩⟩⟩⟩⟩⟩⟩⟩⟩⟩⟩⟩⟩⟩⟩⟩⟩⟩⟩⟩⟩⟩⟩⟩⟩⟩⟩⟩⟩⟩⟩⟩⟩⟩⟩⟩⟩⟩⟩⟩⟩⟩⟩⟩⟩⟩⟩⟩⟩⟩⟩⟩⟩⟩⟩⟩⟩⟩⟩⟩⟩⟩⟩⟩⟩⟩⟩⟩⟩⟩⟩⟩⟩⟩⟩⟩⟩⟩⟩⟩⟩⟩⟩⟩⟩⟩⟩
theorem aX_rel : ∀ n, ARX (recX n) (aX n) := by
  intro n
  induction n with
  | zero => exact ⟨fun h t vs xs A σ nds _ _ => trivial, fun xs σ r σ' h => by cases h⟩
  | succ n ih =>
    refine ⟨fun hd t vs xs A σ nds hv hS => ?_, fun xs σ r σ' h => makeX_cap (by decide) xs σ r σ' h⟩
    show OKm scX hd nds (if t = 17 then fltX xs σ else match alook mXt t with
      | some (i, r, b, np, f) => mth i r b np (f (recX n)) xs σ
      | none => none) (if t = 17 then aflt vs A else if t = 21 then amk scX.cv (fun i => i) scX.frk vs A else if t = 88 then (if vs.length = 0 then aInBr (zX_br (aX n)) A else none) else match alook aXt t with
      | some (i, r, b, np, f) => amth i r b np (f (aX n)) vs A
      | none => none)
    by_cases h1 : t = 17
    · rw [if_pos h1, if_pos h1]
      exact aflt_rel hv hS
    rw [if_neg h1, if_neg h1]
    by_cases h2 : t = 21
    · rw [if_pos h2]
      subst h2
      exact amk_rel (run := fun xs σ => mth true true false 5 (bX_make (recX n)) xs σ) makeX hv hS
    rw [if_neg h2]
    by_cases h3 : t = 88
    · rw [if_pos h3]
      subst h3
      by_cases hl : vs.length = 0
      · rw [if_pos hl]
        have e1 : vs = [] := List.length_eq_zero_iff.mp hl
        subst e1
        have e2 : xs = [] := by
          cases xs with
          | nil => rfl
          | cons _ _ => exact hv.elim
        subst e2
        show OKm scX hd nds (mth true true true 0 (bX_inBrackets (recX n)) [] σ) (aInBr (zX_br (aX n)) A)
        rw [fX_br_eq]
        cases n with
        | zero => exact trivial
        | succ n => exact inBr_rel (rec2 := recX n) (fun xs σ => rfl) (zrX_br ih) hS
      · rw [if_neg hl]; exact trivial
    rw [if_neg h3]
    cases h4 : alook aXt t with
    | none => exact trivial
    | some e =>
      obtain ⟨i, r, b, np, f⟩ := e
      obtain ⟨f0, q1, q2⟩ := aXt_ok _ (alook_mem h4)
      have q1 : alook mXt t = some (i, r, b, np, f0) := q1
      rw [q1]
      exact mth_rel (q2 _ _ ih) hv hS
