set_option maxRecDepth 100000
/-! CoreSyntaxModel -/
def RX3 : String := "CoreSyntaxModel"
def TX3 : u_T := fun k => match k with
  | 0 => ("CoreSyntaxModel", "kinds", "[I", true)
  | 1 => ("CoreSyntaxModel", "values", "[I", true)
  | 2 => ("CoreSyntaxModel", "numbers", "[I", true)
  | 3 => ("CoreSyntaxModel", "tokens", "I", false)
  | 4 => ("CoreSyntaxModel", "fixities", "[I", true)
  | 5 => ("CoreSyntaxModel", "changes", "LCoreSyntaxModel$Row;", true)
  | 6 => ("CoreSyntaxModel", "read", "LCoreSyntaxModel$Row;", true)
  | 7 => ("CoreSyntaxModel", "tree", "LCoreSyntaxModel$Row;", true)
  | 8 => ("CoreSyntaxModel", "ends", "LCoreSyntaxModel$Row;", true)
  | 9 => ("CoreSyntaxModel", "renumbered", "LCoreSyntaxModel$Row;", true)
  | 10 => ("CoreSyntaxModel", "names", "LCoreSyntaxModel$Row;", true)
  | 11 => ("CoreSyntaxModel", "fresh", "I", false)
  | 12 => ("CoreSyntaxModel", "stopped", "Ljava/lang/IllegalStateException;", true)
  | 13 => ("CoreSyntaxModel", "at", "I", false)
  | 14 => ("CoreSyntaxModel", "open", "I", false)
  | 15 => ("CoreSyntaxModel", "fault", "I", false)
  | 16 => ("CoreSyntaxModel", "place", "I", false)
  | 17 => ("CoreSyntaxModel", "pile", "LCoreSyntaxModel$Row;", true)
  | 18 => ("CoreSyntaxModel", "operators", "LCoreSyntaxModel$Row;", true)
  | 19 => ("CoreSyntaxModel", "named", "I", false)
  | 20 => ("CoreSyntaxModel", "firstName", "I", false)
  | 21 => ("CoreSyntaxModel", "firstCount", "I", false)
  | _ => ("CoreSyntaxModel", "mayRetreat", "Z", false)
def tyX3 : Nat → FieldType := fun k => match k with
  | 0 => .array .int
  | 1 => .array .int
  | 2 => .array .int
  | 3 => .int
  | 4 => .array .int
  | 5 => .object "CoreSyntaxModel$Row"
  | 6 => .object "CoreSyntaxModel$Row"
  | 7 => .object "CoreSyntaxModel$Row"
  | 8 => .object "CoreSyntaxModel$Row"
  | 9 => .object "CoreSyntaxModel$Row"
  | 10 => .object "CoreSyntaxModel$Row"
  | 11 => .int
  | 12 => .object "java/lang/IllegalStateException"
  | 13 => .int
  | 14 => .int
  | 15 => .int
  | 16 => .int
  | 17 => .object "CoreSyntaxModel$Row"
  | 18 => .object "CoreSyntaxModel$Row"
  | 19 => .int
  | 20 => .int
  | 21 => .int
  | _ => .boolean
abbrev wsX30 : List Cond := u_ws RX3 TX3 23
set_option maxRecDepth 100000 in
theorem nmX3 : ∀ a, a < 23 → ∀ b, b < 23 → a ≠ b → (TX3 a).2.1 ≠ (TX3 b).2.1 := by decide +kernel
set_option maxRecDepth 100000 in
theorem tyX3_ok : ∀ k, k < 23 → parseFieldDescriptor (TX3 k).2.2.1 = some (tyX3 k) := by decide +kernel
abbrev cX3_init : ByteArray := prog_5_method_1_code
def yX3_init : MethodName := ⟨RX3, "<init>", "()V"⟩
abbrev cX3_token : ByteArray := prog_5_method_2_code
def yX3_token : MethodName := ⟨RX3, "token", "(III)I"⟩
abbrev cX3_clear : ByteArray := prog_5_method_3_code
def yX3_clear : MethodName := ⟨RX3, "clear", "()I"⟩
abbrev cX3_tokens : ByteArray := prog_5_method_4_code
def yX3_tokens : MethodName := ⟨RX3, "tokens", "()I"⟩
abbrev cX3_parse : ByteArray := prog_5_method_92_code
def yX3_parse : MethodName := ⟨RX3, "parse", "()I"⟩
abbrev cX3_decs : ByteArray := prog_5_method_68_code
def yX3_decs : MethodName := ⟨RX3, "decs", "(Z)I"⟩
abbrev cX3_is : ByteArray := prog_5_method_7_code
def yX3_is : MethodName := ⟨RX3, "is", "(I)Z"⟩
abbrev cX3_isDeclaration : ByteArray := prog_5_method_67_code
def yX3_isDeclaration : MethodName := ⟨RX3, "isDeclaration", "()Z"⟩
abbrev cX3_kind : ByteArray := prog_5_method_8_code
def yX3_kind : MethodName := ⟨RX3, "kind", "()I"⟩
abbrev cX3_eat : ByteArray := prog_5_method_10_code
def yX3_eat : MethodName := ⟨RX3, "eat", "(I)Z"⟩
abbrev cX3_stop : ByteArray := prog_5_method_6_code
def yX3_stop : MethodName := ⟨RX3, "stop", "()V"⟩
abbrev cX3_fail : ByteArray := prog_5_method_5_code
def yX3_fail : MethodName := ⟨RX3, "fail", "(II)V"⟩
abbrev cX3_exp : ByteArray := prog_5_method_39_code
def yX3_exp : MethodName := ⟨RX3, "exp", "()I"⟩
abbrev cX3_isForm : ByteArray := prog_5_method_38_code
def yX3_isForm : MethodName := ⟨RX3, "isForm", "()Z"⟩
abbrev cX3_form : ByteArray := prog_5_method_40_code
def yX3_form : MethodName := ⟨RX3, "form", "()I"⟩
abbrev cX3_enter : ByteArray := prog_5_method_11_code
def yX3_enter : MethodName := ⟨RX3, "enter", "()V"⟩
abbrev cX3_make : ByteArray := prog_5_method_12_code
def yX3_make : MethodName := ⟨RX3, "make", "(IIIII)I"⟩
abbrev cX3_match : ByteArray := prog_5_method_42_code
def yX3_match : MethodName := ⟨RX3, "match", "()I"⟩
abbrev cX3_pat : ByteArray := prog_5_method_53_code
def yX3_pat : MethodName := ⟨RX3, "pat", "()I"⟩
abbrev cX3_isBare : ByteArray := prog_5_method_54_code
def yX3_isBare : MethodName := ⟨RX3, "isBare", "()Z"⟩
abbrev cX3_isName : ByteArray := prog_5_method_28_code
def yX3_isName : MethodName := ⟨RX3, "isName", "()Z"⟩
abbrev cX3_isOperator : ByteArray := prog_5_method_29_code
def yX3_isOperator : MethodName := ⟨RX3, "isOperator", "()Z"⟩
abbrev cX3_infix : ByteArray := prog_5_method_46_code
def yX3_infix : MethodName := ⟨RX3, "infix", "(Z)I"⟩
abbrev cX3_applied : ByteArray := prog_5_method_55_code
def yX3_applied : MethodName := ⟨RX3, "applied", "()I"⟩
abbrev cX3_isId : ByteArray := prog_5_method_30_code
def yX3_isId : MethodName := ⟨RX3, "isId", "()Z"⟩
abbrev cX3_atomicPattern : ByteArray := prog_5_method_56_code
def yX3_atomicPattern : MethodName := ⟨RX3, "atomicPattern", "()I"⟩
abbrev cX3_isConstant : ByteArray := prog_5_method_31_code
def yX3_isConstant : MethodName := ⟨RX3, "isConstant", "()Z"⟩
abbrev cX3_id : ByteArray := prog_5_method_32_code
def yX3_id : MethodName := ⟨RX3, "id", "(Z)I"⟩
abbrev cX3_recordPattern : ByteArray := prog_5_method_57_code
def yX3_recordPattern : MethodName := ⟨RX3, "recordPattern", "()I"⟩
abbrev cX3_field : ByteArray := prog_5_method_58_code
def yX3_field : MethodName := ⟨RX3, "field", "(I)I"⟩
abbrev cX3_checkLabel : ByteArray := prog_5_method_36_code
def yX3_checkLabel : MethodName := ⟨RX3, "checkLabel", "(I)V"⟩
abbrev cX3_isLabel : ByteArray := prog_5_method_33_code
def yX3_isLabel : MethodName := ⟨RX3, "isLabel", "()Z"⟩
abbrev cX3_label : ByteArray := prog_5_method_34_code
def yX3_label : MethodName := ⟨RX3, "label", "()I"⟩
abbrev cX3_need : ByteArray := prog_5_method_9_code
def yX3_need : MethodName := ⟨RX3, "need", "(I)V"⟩
abbrev cX3_variable : ByteArray := prog_5_method_21_code
def yX3_variable : MethodName := ⟨RX3, "variable", "(II)I"⟩
abbrev cX3_type : ByteArray := prog_5_method_60_code
def yX3_type : MethodName := ⟨RX3, "type", "()I"⟩
abbrev cX3_product : ByteArray := prog_5_method_61_code
def yX3_product : MethodName := ⟨RX3, "product", "()I"⟩
abbrev cX3_appliedType : ByteArray := prog_5_method_63_code
def yX3_appliedType : MethodName := ⟨RX3, "appliedType", "()I"⟩
abbrev cX3_firstType : ByteArray := prog_5_method_64_code
def yX3_firstType : MethodName := ⟨RX3, "firstType", "()I"⟩
abbrev cX3_recordType : ByteArray := prog_5_method_65_code
def yX3_recordType : MethodName := ⟨RX3, "recordType", "()I"⟩
abbrev cX3_sort : ByteArray := prog_5_method_37_code
def yX3_sort : MethodName := ⟨RX3, "sort", "(I)V"⟩
abbrev cX3_rank : ByteArray := prog_5_method_35_code
def yX3_rank : MethodName := ⟨RX3, "rank", "(I)I"⟩
abbrev cX3_list : ByteArray := prog_5_method_14_code
def yX3_list : MethodName := ⟨RX3, "list", "(I)I"⟩
abbrev cX3_placeOf : ByteArray := prog_5_method_13_code
def yX3_placeOf : MethodName := ⟨RX3, "placeOf", "(I)I"⟩
abbrev cX3_built : ByteArray := prog_5_method_62_code
def yX3_built : MethodName := ⟨RX3, "built", "(II)I"⟩
abbrev cX3_isConstructor : ByteArray := prog_5_method_59_code
def yX3_isConstructor : MethodName := ⟨RX3, "isConstructor", "()Z"⟩
abbrev cX3_listOf : ByteArray := prog_5_method_15_code
def yX3_listOf : MethodName := ⟨RX3, "listOf", "(I)I"⟩
abbrev cX3_tuple : ByteArray := prog_5_method_19_code
def yX3_tuple : MethodName := ⟨RX3, "tuple", "(III)I"⟩
abbrev cX3_chain : ByteArray := prog_5_method_26_code
def yX3_chain : MethodName := ⟨RX3, "chain", "(ZII)I"⟩
abbrev cX3_name : ByteArray := prog_5_method_20_code
def yX3_name : MethodName := ⟨RX3, "name", "(II)I"⟩
abbrev cX3_couple : ByteArray := prog_5_method_18_code
def yX3_couple : MethodName := ⟨RX3, "couple", "(IIII)I"⟩
abbrev cX3_listOf_2 : ByteArray := prog_5_method_16_code
def yX3_listOf_2 : MethodName := ⟨RX3, "listOf", "(II)I"⟩
abbrev cX3_isAtomicPattern : ByteArray := prog_5_method_52_code
def yX3_isAtomicPattern : MethodName := ⟨RX3, "isAtomicPattern", "()Z"⟩
abbrev cX3_atomic : ByteArray := prog_5_method_48_code
def yX3_atomic : MethodName := ⟨RX3, "atomic", "()I"⟩
abbrev cX3_round : ByteArray := prog_5_method_50_code
def yX3_round : MethodName := ⟨RX3, "round", "()I"⟩
abbrev cX3_unit : ByteArray := prog_5_method_17_code
def yX3_unit : MethodName := ⟨RX3, "unit", "(II)I"⟩
abbrev cX3_sequence : ByteArray := prog_5_method_25_code
def yX3_sequence : MethodName := ⟨RX3, "sequence", "(II)I"⟩
abbrev cX3_oneCase : ByteArray := prog_5_method_23_code
def yX3_oneCase : MethodName := ⟨RX3, "oneCase", "(IIII)I"⟩
abbrev cX3_rule : ByteArray := prog_5_method_22_code
def yX3_rule : MethodName := ⟨RX3, "rule", "(III)I"⟩
abbrev cX3_items : ByteArray := prog_5_method_49_code
def yX3_items : MethodName := ⟨RX3, "items", "(I)V"⟩
abbrev cX3_record : ByteArray := prog_5_method_51_code
def yX3_record : MethodName := ⟨RX3, "record", "()I"⟩
abbrev cX3_freshName : ByteArray := prog_5_method_27_code
def yX3_freshName : MethodName := ⟨RX3, "freshName", "()I"⟩
abbrev cX3_undo : ByteArray := prog_5_method_82_code
def yX3_undo : MethodName := ⟨RX3, "undo", "(I)V"⟩
abbrev cX3_isAtomic : ByteArray := prog_5_method_47_code
def yX3_isAtomic : MethodName := ⟨RX3, "isAtomic", "()Z"⟩
abbrev cX3_checkOperator : ByteArray := prog_5_method_43_code
def yX3_checkOperator : MethodName := ⟨RX3, "checkOperator", "(II)V"⟩
abbrev cX3_bindsFirst : ByteArray := prog_5_method_45_code
def yX3_bindsFirst : MethodName := ⟨RX3, "bindsFirst", "(II)Z"⟩
abbrev cX3_join : ByteArray := prog_5_method_44_code
def yX3_join : MethodName := ⟨RX3, "join", "(Z)V"⟩
abbrev cX3_choice : ByteArray := prog_5_method_24_code
def yX3_choice : MethodName := ⟨RX3, "choice", "(IIII)I"⟩
abbrev cX3_loop : ByteArray := prog_5_method_41_code
def yX3_loop : MethodName := ⟨RX3, "loop", "(III)I"⟩
abbrev cX3_val : ByteArray := prog_5_method_70_code
def yX3_val : MethodName := ⟨RX3, "val", "(I)I"⟩
abbrev cX3_typeVariables : ByteArray := prog_5_method_66_code
def yX3_typeVariables : MethodName := ⟨RX3, "typeVariables", "(Z)I"⟩
abbrev cX3_fun : ByteArray := prog_5_method_90_code
def yX3_fun : MethodName := ⟨RX3, "fun", "(I)I"⟩
abbrev cX3_clause : ByteArray := prog_5_method_89_code
def yX3_clause : MethodName := ⟨RX3, "clause", "(Z)I"⟩
abbrev cX3_head : ByteArray := prog_5_method_88_code
def yX3_head : MethodName := ⟨RX3, "head", "()I"⟩
abbrev cX3_isOperatorAt : ByteArray := prog_5_method_85_code
def yX3_isOperatorAt : MethodName := ⟨RX3, "isOperatorAt", "(I)Z"⟩
abbrev cX3_isBracketed : ByteArray := prog_5_method_86_code
def yX3_isBracketed : MethodName := ⟨RX3, "isBracketed", "()Z"⟩
abbrev cX3_operator : ByteArray := prog_5_method_87_code
def yX3_operator : MethodName := ⟨RX3, "operator", "()I"⟩
abbrev cX3_nest : ByteArray := prog_5_method_91_code
def yX3_nest : MethodName := ⟨RX3, "nest", "(II)I"⟩
abbrev cX3_local : ByteArray := prog_5_method_80_code
def yX3_local : MethodName := ⟨RX3, "local", "(I)I"⟩
abbrev cX3_settle : ByteArray := prog_5_method_83_code
def yX3_settle : MethodName := ⟨RX3, "settle", "(II)V"⟩
abbrev cX3_change : ByteArray := prog_5_method_81_code
def yX3_change : MethodName := ⟨RX3, "change", "(II)V"⟩
abbrev cX3_abstype : ByteArray := prog_5_method_77_code
def yX3_abstype : MethodName := ⟨RX3, "abstype", "(I)I"⟩
abbrev cX3_shortConstructor : ByteArray := prog_5_method_71_code
def yX3_shortConstructor : MethodName := ⟨RX3, "shortConstructor", "()I"⟩
abbrev cX3_datatypes : ByteArray := prog_5_method_75_code
def yX3_datatypes : MethodName := ⟨RX3, "datatypes", "(III)I"⟩
abbrev cX3_constructors : ByteArray := prog_5_method_74_code
def yX3_constructors : MethodName := ⟨RX3, "constructors", "()I"⟩
abbrev cX3_bound : ByteArray := prog_5_method_73_code
def yX3_bound : MethodName := ⟨RX3, "bound", "()I"⟩
abbrev cX3_typeBindings : ByteArray := prog_5_method_72_code
def yX3_typeBindings : MethodName := ⟨RX3, "typeBindings", "()I"⟩
abbrev cX3_declaration : ByteArray := prog_5_method_69_code
def yX3_declaration : MethodName := ⟨RX3, "declaration", "(II)I"⟩
abbrev cX3_datatype : ByteArray := prog_5_method_76_code
def yX3_datatype : MethodName := ⟨RX3, "datatype", "(I)I"⟩
abbrev cX3_exceptions : ByteArray := prog_5_method_78_code
def yX3_exceptions : MethodName := ⟨RX3, "exceptions", "()I"⟩
abbrev cX3_opened : ByteArray := prog_5_method_79_code
def yX3_opened : MethodName := ⟨RX3, "opened", "()I"⟩
abbrev cX3_changeFixities : ByteArray := prog_5_method_84_code
def yX3_changeFixities : MethodName := ⟨RX3, "changeFixities", "(I)V"⟩
abbrev cX3_number : ByteArray := prog_5_method_95_code
def yX3_number : MethodName := ⟨RX3, "number", "(I)V"⟩
abbrev cX3_isPart : ByteArray := prog_5_method_94_code
def yX3_isPart : MethodName := ⟨RX3, "isPart", "(II)Z"⟩
abbrev cX3_parts : ByteArray := prog_5_method_93_code
def yX3_parts : MethodName := ⟨RX3, "parts", "(I)I"⟩
abbrev cX3_finish : ByteArray := prog_5_method_96_code
def yX3_finish : MethodName := ⟨RX3, "finish", "()V"⟩
abbrev cX3_fault : ByteArray := prog_5_method_97_code
def yX3_fault : MethodName := ⟨RX3, "fault", "(I)I"⟩
abbrev cX3_retreat : ByteArray := prog_5_method_98_code
def yX3_retreat : MethodName := ⟨RX3, "retreat", "()Z"⟩
abbrev cX3_fixity : ByteArray := prog_5_method_99_code
def yX3_fixity : MethodName := ⟨RX3, "fixity", "(I)I"⟩
abbrev cX3_nodes : ByteArray := prog_5_method_100_code
def yX3_nodes : MethodName := ⟨RX3, "nodes", "()I"⟩
abbrev cX3_node : ByteArray := prog_5_method_102_code
def yX3_node : MethodName := ⟨RX3, "node", "(II)I"⟩
abbrev cX3_isNode : ByteArray := prog_5_method_101_code
def yX3_isNode : MethodName := ⟨RX3, "isNode", "(I)Z"⟩
abbrev cX3_length : ByteArray := prog_5_method_104_code
def yX3_length : MethodName := ⟨RX3, "length", "(I)I"⟩
abbrev cX3_isList : ByteArray := prog_5_method_103_code
def yX3_isList : MethodName := ⟨RX3, "isList", "(I)Z"⟩
abbrev cX3_item : ByteArray := prog_5_method_105_code
def yX3_item : MethodName := ⟨RX3, "item", "(II)I"⟩
abbrev cX3_behind : ByteArray := prog_5_method_106_code
def yX3_behind : MethodName := ⟨RX3, "behind", "(I)I"⟩
abbrev cX3_same : ByteArray := prog_5_method_107_code
def yX3_same : MethodName := ⟨RX3, "same", "(II)Z"⟩
abbrev cX3_fresh : ByteArray := prog_5_method_108_code
def yX3_fresh : MethodName := ⟨RX3, "fresh", "()I"⟩
theorem q201 : (Jvm.Cond.initialized "CoreSyntaxModel") ∈ lw_all := lw_g (lw_at lw_m1 4 rfl) rfl
theorem q927 : (Jvm.Cond.instantiable "CoreSyntaxModel" (23 : Nat)) ∈ lw_all := lw_g (lw_at lw_m4 10 rfl) rfl
theorem q929 : (Jvm.Cond.instanceMethod ({ cls := "CoreSyntaxModel", name := "<init>", desc := "()V" } : Jvm.MethodName)) ∈ lw_all := lw_g (lw_at lw_m4 12 rfl) rfl
theorem q930 : (Jvm.Cond.code ({ cls := "CoreSyntaxModel", name := "<init>", desc := "()V" } : Jvm.MethodName) prog_5_method_1_code (3 : Nat) (Option.none : Option Jvm.ClassFile.FieldType)) ∈ lw_all := lw_g (lw_at lw_m4 13 rfl) rfl
theorem q931 : (Jvm.Cond.methodLink "CoreSyntaxModel" (1 : Nat) ({ cls := "java/lang/Object", name := "<init>", desc := "()V" } : Jvm.MethodName)) ∈ lw_all := lw_g (lw_at lw_m4 14 rfl) rfl
theorem q932 : (Jvm.Cond.classLink "CoreSyntaxModel" (22 : Nat) "CoreSyntaxModel$Row") ∈ lw_all := lw_g (lw_at lw_m4 15 rfl) rfl
theorem q934 : (Jvm.Cond.methodLinkNest "CoreSyntaxModel" (24 : Nat) ({ cls := "CoreSyntaxModel$Row", name := "<init>", desc := "()V" } : Jvm.MethodName) "CoreSyntaxModel") ∈ lw_tbl := lw_at lw_m4 17 rfl
theorem q939 : (Jvm.Cond.fieldLinkNest "CoreSyntaxModel" (91 : Nat) "CoreSyntaxModel$Row" "all" "[I" "CoreSyntaxModel") ∈ lw_tbl := lw_at lw_m4 22 rfl
theorem q941 : (Jvm.Cond.fieldLinkNest "CoreSyntaxModel" (88 : Nat) "CoreSyntaxModel$Row" "size" "I" "CoreSyntaxModel") ∈ lw_tbl := lw_at lw_m4 24 rfl
theorem q947 : (Jvm.Cond.classLink "CoreSyntaxModel" (44 : Nat) "java/lang/IllegalStateException") ∈ lw_all := lw_g (lw_at lw_m4 30 rfl) rfl
theorem q948 : (Jvm.Cond.methodLink "CoreSyntaxModel" (46 : Nat) ({ cls := "java/lang/IllegalStateException", name := "<init>", desc := "()V" } : Jvm.MethodName)) ∈ lw_all := lw_g (lw_at lw_m4 31 rfl) rfl
theorem q949 : (Jvm.Cond.fieldLink "CoreSyntaxModel" (9 : Nat) "CoreSyntaxModel" "kinds" "[I") ∈ lw_all := lw_g (lw_at lw_m4 32 rfl) rfl
theorem q950 : (Jvm.Cond.fieldLink "CoreSyntaxModel" (13 : Nat) "CoreSyntaxModel" "values" "[I") ∈ lw_all := lw_g (lw_at lw_m4 33 rfl) rfl
theorem q951 : (Jvm.Cond.fieldLink "CoreSyntaxModel" (16 : Nat) "CoreSyntaxModel" "numbers" "[I") ∈ lw_all := lw_g (lw_at lw_m4 34 rfl) rfl
theorem q952 : (Jvm.Cond.fieldLink "CoreSyntaxModel" (61 : Nat) "CoreSyntaxModel" "tokens" "I") ∈ lw_all := lw_g (lw_at lw_m4 35 rfl) rfl
theorem q953 : (Jvm.Cond.fieldLink "CoreSyntaxModel" (19 : Nat) "CoreSyntaxModel" "fixities" "[I") ∈ lw_all := lw_g (lw_at lw_m4 36 rfl) rfl
theorem q954 : (Jvm.Cond.fieldLink "CoreSyntaxModel" (25 : Nat) "CoreSyntaxModel" "changes" "LCoreSyntaxModel$Row;") ∈ lw_all := lw_g (lw_at lw_m4 37 rfl) rfl
theorem q955 : (Jvm.Cond.fieldLink "CoreSyntaxModel" (29 : Nat) "CoreSyntaxModel" "read" "LCoreSyntaxModel$Row;") ∈ lw_all := lw_g (lw_at lw_m4 38 rfl) rfl
theorem q956 : (Jvm.Cond.fieldLink "CoreSyntaxModel" (32 : Nat) "CoreSyntaxModel" "tree" "LCoreSyntaxModel$Row;") ∈ lw_all := lw_g (lw_at lw_m4 39 rfl) rfl
theorem q957 : (Jvm.Cond.fieldLink "CoreSyntaxModel" (35 : Nat) "CoreSyntaxModel" "ends" "LCoreSyntaxModel$Row;") ∈ lw_all := lw_g (lw_at lw_m4 40 rfl) rfl
theorem q958 : (Jvm.Cond.fieldLink "CoreSyntaxModel" (38 : Nat) "CoreSyntaxModel" "renumbered" "LCoreSyntaxModel$Row;") ∈ lw_all := lw_g (lw_at lw_m4 41 rfl) rfl
theorem q959 : (Jvm.Cond.fieldLink "CoreSyntaxModel" (41 : Nat) "CoreSyntaxModel" "names" "LCoreSyntaxModel$Row;") ∈ lw_all := lw_g (lw_at lw_m4 42 rfl) rfl
theorem q960 : (Jvm.Cond.fieldLink "CoreSyntaxModel" (132 : Nat) "CoreSyntaxModel" "fresh" "I") ∈ lw_all := lw_g (lw_at lw_m4 43 rfl) rfl
theorem q961 : (Jvm.Cond.fieldLink "CoreSyntaxModel" (47 : Nat) "CoreSyntaxModel" "stopped" "Ljava/lang/IllegalStateException;") ∈ lw_all := lw_g (lw_at lw_m4 44 rfl) rfl
theorem q962 : (Jvm.Cond.fieldLink "CoreSyntaxModel" (67 : Nat) "CoreSyntaxModel" "at" "I") ∈ lw_all := lw_g (lw_at lw_m4 45 rfl) rfl
theorem q963 : (Jvm.Cond.fieldLink "CoreSyntaxModel" (81 : Nat) "CoreSyntaxModel" "open" "I") ∈ lw_all := lw_g (lw_at lw_m4 46 rfl) rfl
theorem q964 : (Jvm.Cond.fieldLink "CoreSyntaxModel" (64 : Nat) "CoreSyntaxModel" "fault" "I") ∈ lw_all := lw_g (lw_at lw_m4 47 rfl) rfl
theorem q965 : (Jvm.Cond.fieldLink "CoreSyntaxModel" (51 : Nat) "CoreSyntaxModel" "place" "I") ∈ lw_all := lw_g (lw_at lw_m4 48 rfl) rfl
theorem q966 : (Jvm.Cond.fieldLink "CoreSyntaxModel" (55 : Nat) "CoreSyntaxModel" "pile" "LCoreSyntaxModel$Row;") ∈ lw_all := lw_g (lw_at lw_m4 49 rfl) rfl
theorem q967 : (Jvm.Cond.fieldLink "CoreSyntaxModel" (58 : Nat) "CoreSyntaxModel" "operators" "LCoreSyntaxModel$Row;") ∈ lw_all := lw_g (lw_at lw_m4 50 rfl) rfl
theorem q968 : (Jvm.Cond.fieldLink "CoreSyntaxModel" (149 : Nat) "CoreSyntaxModel" "named" "I") ∈ lw_all := lw_g (lw_at lw_m4 51 rfl) rfl
theorem q969 : (Jvm.Cond.fieldLink "CoreSyntaxModel" (361 : Nat) "CoreSyntaxModel" "firstName" "I") ∈ lw_all := lw_g (lw_at lw_m4 52 rfl) rfl
theorem q970 : (Jvm.Cond.fieldLink "CoreSyntaxModel" (364 : Nat) "CoreSyntaxModel" "firstCount" "I") ∈ lw_all := lw_g (lw_at lw_m4 53 rfl) rfl
theorem q971 : (Jvm.Cond.fieldLink "CoreSyntaxModel" (376 : Nat) "CoreSyntaxModel" "mayRetreat" "Z") ∈ lw_all := lw_g (lw_at lw_m4 54 rfl) rfl
theorem q972 : (Jvm.Cond.laysFinal "CoreSyntaxModel" "CoreSyntaxModel" "kinds" "[I") ∈ lw_all := lw_g (lw_at lw_m4 55 rfl) rfl
theorem q973 : (Jvm.Cond.soleField "CoreSyntaxModel" "kinds") ∈ lw_all := lw_g (lw_at lw_m4 56 rfl) rfl
theorem q974 : (Jvm.Cond.laysFinal "CoreSyntaxModel" "CoreSyntaxModel" "values" "[I") ∈ lw_all := lw_g (lw_at lw_m4 57 rfl) rfl
theorem q975 : (Jvm.Cond.soleField "CoreSyntaxModel" "values") ∈ lw_all := lw_g (lw_at lw_m4 58 rfl) rfl
theorem q976 : (Jvm.Cond.laysFinal "CoreSyntaxModel" "CoreSyntaxModel" "numbers" "[I") ∈ lw_all := lw_g (lw_at lw_m4 59 rfl) rfl
theorem q977 : (Jvm.Cond.soleField "CoreSyntaxModel" "numbers") ∈ lw_all := lw_g (lw_at lw_m4 60 rfl) rfl
theorem q978 : (Jvm.Cond.lays "CoreSyntaxModel" "CoreSyntaxModel" "tokens" "I") ∈ lw_all := lw_g (lw_at lw_m4 61 rfl) rfl
theorem q979 : (Jvm.Cond.soleField "CoreSyntaxModel" "tokens") ∈ lw_all := lw_g (lw_at lw_m4 62 rfl) rfl
theorem q980 : (Jvm.Cond.laysFinal "CoreSyntaxModel" "CoreSyntaxModel" "fixities" "[I") ∈ lw_all := lw_g (lw_at lw_m4 63 rfl) rfl
theorem q981 : (Jvm.Cond.soleField "CoreSyntaxModel" "fixities") ∈ lw_all := lw_g (lw_at lw_m4 64 rfl) rfl
theorem q982 : (Jvm.Cond.laysFinal "CoreSyntaxModel" "CoreSyntaxModel" "changes" "LCoreSyntaxModel$Row;") ∈ lw_all := lw_g (lw_at lw_m4 65 rfl) rfl
theorem q983 : (Jvm.Cond.soleField "CoreSyntaxModel" "changes") ∈ lw_all := lw_g (lw_at lw_m4 66 rfl) rfl
theorem q984 : (Jvm.Cond.laysFinal "CoreSyntaxModel" "CoreSyntaxModel" "read" "LCoreSyntaxModel$Row;") ∈ lw_all := lw_g (lw_at lw_m4 67 rfl) rfl
theorem q985 : (Jvm.Cond.soleField "CoreSyntaxModel" "read") ∈ lw_all := lw_g (lw_at lw_m4 68 rfl) rfl
theorem q986 : (Jvm.Cond.laysFinal "CoreSyntaxModel" "CoreSyntaxModel" "tree" "LCoreSyntaxModel$Row;") ∈ lw_all := lw_g (lw_at lw_m4 69 rfl) rfl
theorem q987 : (Jvm.Cond.soleField "CoreSyntaxModel" "tree") ∈ lw_all := lw_g (lw_at lw_m4 70 rfl) rfl
theorem q988 : (Jvm.Cond.laysFinal "CoreSyntaxModel" "CoreSyntaxModel" "ends" "LCoreSyntaxModel$Row;") ∈ lw_all := lw_g (lw_at lw_m4 71 rfl) rfl
theorem q989 : (Jvm.Cond.soleField "CoreSyntaxModel" "ends") ∈ lw_all := lw_g (lw_at lw_m4 72 rfl) rfl
theorem q990 : (Jvm.Cond.laysFinal "CoreSyntaxModel" "CoreSyntaxModel" "renumbered" "LCoreSyntaxModel$Row;") ∈ lw_all := lw_g (lw_at lw_m4 73 rfl) rfl
theorem q991 : (Jvm.Cond.soleField "CoreSyntaxModel" "renumbered") ∈ lw_all := lw_g (lw_at lw_m4 74 rfl) rfl
theorem q992 : (Jvm.Cond.laysFinal "CoreSyntaxModel" "CoreSyntaxModel" "names" "LCoreSyntaxModel$Row;") ∈ lw_all := lw_g (lw_at lw_m4 75 rfl) rfl
theorem q993 : (Jvm.Cond.soleField "CoreSyntaxModel" "names") ∈ lw_all := lw_g (lw_at lw_m4 76 rfl) rfl
theorem q994 : (Jvm.Cond.lays "CoreSyntaxModel" "CoreSyntaxModel" "fresh" "I") ∈ lw_all := lw_g (lw_at lw_m4 77 rfl) rfl
theorem q995 : (Jvm.Cond.soleField "CoreSyntaxModel" "fresh") ∈ lw_all := lw_g (lw_at lw_m4 78 rfl) rfl
theorem q996 : (Jvm.Cond.laysFinal "CoreSyntaxModel" "CoreSyntaxModel" "stopped" "Ljava/lang/IllegalStateException;") ∈ lw_all := lw_g (lw_at lw_m4 79 rfl) rfl
theorem q997 : (Jvm.Cond.soleField "CoreSyntaxModel" "stopped") ∈ lw_all := lw_g (lw_at lw_m4 80 rfl) rfl
theorem q998 : (Jvm.Cond.lays "CoreSyntaxModel" "CoreSyntaxModel" "at" "I") ∈ lw_all := lw_g (lw_at lw_m4 81 rfl) rfl
theorem q999 : (Jvm.Cond.soleField "CoreSyntaxModel" "at") ∈ lw_all := lw_g (lw_at lw_m4 82 rfl) rfl
theorem q1000 : (Jvm.Cond.lays "CoreSyntaxModel" "CoreSyntaxModel" "open" "I") ∈ lw_all := lw_g (lw_at lw_m4 83 rfl) rfl
theorem q1001 : (Jvm.Cond.soleField "CoreSyntaxModel" "open") ∈ lw_all := lw_g (lw_at lw_m4 84 rfl) rfl
theorem q1002 : (Jvm.Cond.lays "CoreSyntaxModel" "CoreSyntaxModel" "fault" "I") ∈ lw_all := lw_g (lw_at lw_m4 85 rfl) rfl
theorem q1003 : (Jvm.Cond.soleField "CoreSyntaxModel" "fault") ∈ lw_all := lw_g (lw_at lw_m4 86 rfl) rfl
theorem q1004 : (Jvm.Cond.lays "CoreSyntaxModel" "CoreSyntaxModel" "place" "I") ∈ lw_all := lw_g (lw_at lw_m4 87 rfl) rfl
theorem q1005 : (Jvm.Cond.soleField "CoreSyntaxModel" "place") ∈ lw_all := lw_g (lw_at lw_m4 88 rfl) rfl
theorem q1006 : (Jvm.Cond.laysFinal "CoreSyntaxModel" "CoreSyntaxModel" "pile" "LCoreSyntaxModel$Row;") ∈ lw_all := lw_g (lw_at lw_m4 89 rfl) rfl
theorem q1007 : (Jvm.Cond.soleField "CoreSyntaxModel" "pile") ∈ lw_all := lw_g (lw_at lw_m4 90 rfl) rfl
theorem q1008 : (Jvm.Cond.laysFinal "CoreSyntaxModel" "CoreSyntaxModel" "operators" "LCoreSyntaxModel$Row;") ∈ lw_all := lw_g (lw_at lw_m4 91 rfl) rfl
theorem q1009 : (Jvm.Cond.soleField "CoreSyntaxModel" "operators") ∈ lw_all := lw_g (lw_at lw_m4 92 rfl) rfl
theorem q1010 : (Jvm.Cond.lays "CoreSyntaxModel" "CoreSyntaxModel" "named" "I") ∈ lw_all := lw_g (lw_at lw_m4 93 rfl) rfl
theorem q1011 : (Jvm.Cond.soleField "CoreSyntaxModel" "named") ∈ lw_all := lw_g (lw_at lw_m4 94 rfl) rfl
theorem q1012 : (Jvm.Cond.lays "CoreSyntaxModel" "CoreSyntaxModel" "firstName" "I") ∈ lw_all := lw_g (lw_at lw_m4 95 rfl) rfl
theorem q1013 : (Jvm.Cond.soleField "CoreSyntaxModel" "firstName") ∈ lw_all := lw_g (lw_at lw_m4 96 rfl) rfl
theorem q1014 : (Jvm.Cond.lays "CoreSyntaxModel" "CoreSyntaxModel" "firstCount" "I") ∈ lw_all := lw_g (lw_at lw_m4 97 rfl) rfl
theorem q1015 : (Jvm.Cond.soleField "CoreSyntaxModel" "firstCount") ∈ lw_all := lw_g (lw_at lw_m4 98 rfl) rfl
theorem q1016 : (Jvm.Cond.lays "CoreSyntaxModel" "CoreSyntaxModel" "mayRetreat" "Z") ∈ lw_all := lw_g (lw_at lw_m4 99 rfl) rfl
theorem q1017 : (Jvm.Cond.soleField "CoreSyntaxModel" "mayRetreat") ∈ lw_all := lw_g (lw_at lw_m4 100 rfl) rfl
theorem q1018 : (Jvm.Cond.superclass "CoreSyntaxModel" "java/lang/Object") ∈ lw_all := lw_g (lw_at lw_m4 101 rfl) rfl
theorem q1020 : (Jvm.Cond.instanceMethod ({ cls := "CoreSyntaxModel", name := "token", desc := "(III)I" } : Jvm.MethodName)) ∈ lw_all := lw_g (lw_at lw_m4 103 rfl) rfl
theorem q1021 : (Jvm.Cond.selects "CoreSyntaxModel" ({ cls := "CoreSyntaxModel", name := "token", desc := "(III)I" } : Jvm.MethodName) ({ cls := "CoreSyntaxModel", name := "token", desc := "(III)I" } : Jvm.MethodName)) ∈ lw_all := lw_g (lw_at lw_m4 104 rfl) rfl
theorem q1022 : (Jvm.Cond.code ({ cls := "CoreSyntaxModel", name := "token", desc := "(III)I" } : Jvm.MethodName) prog_5_method_2_code (6 : Nat) (Option.some Jvm.ClassFile.FieldType.int)) ∈ lw_all := lw_g (lw_at lw_m4 105 rfl) rfl
theorem q1024 : (Jvm.Cond.instanceMethod ({ cls := "CoreSyntaxModel", name := "clear", desc := "()I" } : Jvm.MethodName)) ∈ lw_all := lw_g (lw_at lw_m4 107 rfl) rfl
theorem q1025 : (Jvm.Cond.selects "CoreSyntaxModel" ({ cls := "CoreSyntaxModel", name := "clear", desc := "()I" } : Jvm.MethodName) ({ cls := "CoreSyntaxModel", name := "clear", desc := "()I" } : Jvm.MethodName)) ∈ lw_all := lw_g (lw_at lw_m4 108 rfl) rfl
theorem q1026 : (Jvm.Cond.code ({ cls := "CoreSyntaxModel", name := "clear", desc := "()I" } : Jvm.MethodName) prog_5_method_3_code (2 : Nat) (Option.some Jvm.ClassFile.FieldType.int)) ∈ lw_all := lw_g (lw_at lw_m4 109 rfl) rfl
theorem q1028 : (Jvm.Cond.instanceMethod ({ cls := "CoreSyntaxModel", name := "tokens", desc := "()I" } : Jvm.MethodName)) ∈ lw_all := lw_g (lw_at lw_m4 111 rfl) rfl
theorem q1029 : (Jvm.Cond.selects "CoreSyntaxModel" ({ cls := "CoreSyntaxModel", name := "tokens", desc := "()I" } : Jvm.MethodName) ({ cls := "CoreSyntaxModel", name := "tokens", desc := "()I" } : Jvm.MethodName)) ∈ lw_all := lw_g (lw_at lw_m4 112 rfl) rfl
theorem q1030 : (Jvm.Cond.code ({ cls := "CoreSyntaxModel", name := "tokens", desc := "()I" } : Jvm.MethodName) prog_5_method_4_code (1 : Nat) (Option.some Jvm.ClassFile.FieldType.int)) ∈ lw_all := lw_g (lw_at lw_m4 113 rfl) rfl
theorem q1032 : (Jvm.Cond.instanceMethod ({ cls := "CoreSyntaxModel", name := "parse", desc := "()I" } : Jvm.MethodName)) ∈ lw_all := lw_g (lw_at lw_m4 115 rfl) rfl
theorem q1033 : (Jvm.Cond.selects "CoreSyntaxModel" ({ cls := "CoreSyntaxModel", name := "parse", desc := "()I" } : Jvm.MethodName) ({ cls := "CoreSyntaxModel", name := "parse", desc := "()I" } : Jvm.MethodName)) ∈ lw_all := lw_g (lw_at lw_m4 116 rfl) rfl
theorem q1034 : (Jvm.Cond.codeWith ({ cls := "CoreSyntaxModel", name := "parse", desc := "()I" } : Jvm.MethodName) prog_5_method_92_code (3 : Nat) (Option.some Jvm.ClassFile.FieldType.int) [((73 : Nat), (82 : Nat), (85 : Nat), (44 : Nat))]) ∈ lw_all := lw_g (lw_at lw_m4 117 rfl) rfl
theorem q1035 : (Jvm.Cond.methodLink "CoreSyntaxModel" (244 : Nat) ({ cls := "CoreSyntaxModel", name := "decs", desc := "(Z)I" } : Jvm.MethodName)) ∈ lw_all := lw_g (lw_at lw_m4 118 rfl) rfl
theorem q1036 : (Jvm.Cond.privateMethod ({ cls := "CoreSyntaxModel", name := "decs", desc := "(Z)I" } : Jvm.MethodName)) ∈ lw_tbl := lw_at lw_m4 119 rfl
theorem q1037 : (Jvm.Cond.instanceMethod ({ cls := "CoreSyntaxModel", name := "decs", desc := "(Z)I" } : Jvm.MethodName)) ∈ lw_all := lw_g (lw_at lw_m4 120 rfl) rfl
theorem q1038 : (Jvm.Cond.code ({ cls := "CoreSyntaxModel", name := "decs", desc := "(Z)I" } : Jvm.MethodName) prog_5_method_68_code (8 : Nat) (Option.some Jvm.ClassFile.FieldType.int)) ∈ lw_all := lw_g (lw_at lw_m4 121 rfl) rfl
theorem q1039 : (Jvm.Cond.methodLink "CoreSyntaxModel" (74 : Nat) ({ cls := "CoreSyntaxModel", name := "is", desc := "(I)Z" } : Jvm.MethodName)) ∈ lw_all := lw_g (lw_at lw_m4 122 rfl) rfl
theorem q1040 : (Jvm.Cond.privateMethod ({ cls := "CoreSyntaxModel", name := "is", desc := "(I)Z" } : Jvm.MethodName)) ∈ lw_tbl := lw_at lw_m4 123 rfl
theorem q1041 : (Jvm.Cond.instanceMethod ({ cls := "CoreSyntaxModel", name := "is", desc := "(I)Z" } : Jvm.MethodName)) ∈ lw_all := lw_g (lw_at lw_m4 124 rfl) rfl
theorem q1042 : (Jvm.Cond.code ({ cls := "CoreSyntaxModel", name := "is", desc := "(I)Z" } : Jvm.MethodName) prog_5_method_7_code (2 : Nat) (Option.some Jvm.ClassFile.FieldType.boolean)) ∈ lw_all := lw_g (lw_at lw_m4 125 rfl) rfl
theorem q1043 : (Jvm.Cond.methodLink "CoreSyntaxModel" (295 : Nat) ({ cls := "CoreSyntaxModel", name := "isDeclaration", desc := "()Z" } : Jvm.MethodName)) ∈ lw_all := lw_g (lw_at lw_m4 126 rfl) rfl
theorem q1044 : (Jvm.Cond.privateMethod ({ cls := "CoreSyntaxModel", name := "isDeclaration", desc := "()Z" } : Jvm.MethodName)) ∈ lw_tbl := lw_at lw_m4 127 rfl
theorem q1045 : (Jvm.Cond.instanceMethod ({ cls := "CoreSyntaxModel", name := "isDeclaration", desc := "()Z" } : Jvm.MethodName)) ∈ lw_all := lw_g (lw_at lw_m4 128 rfl) rfl
theorem q1046 : (Jvm.Cond.code ({ cls := "CoreSyntaxModel", name := "isDeclaration", desc := "()Z" } : Jvm.MethodName) prog_5_method_67_code (1 : Nat) (Option.some Jvm.ClassFile.FieldType.boolean)) ∈ lw_all := lw_g (lw_at lw_m4 129 rfl) rfl
theorem q1047 : (Jvm.Cond.methodLink "CoreSyntaxModel" (136 : Nat) ({ cls := "CoreSyntaxModel", name := "kind", desc := "()I" } : Jvm.MethodName)) ∈ lw_all := lw_g (lw_at lw_m4 130 rfl) rfl
theorem q1048 : (Jvm.Cond.privateMethod ({ cls := "CoreSyntaxModel", name := "kind", desc := "()I" } : Jvm.MethodName)) ∈ lw_tbl := lw_at lw_m4 131 rfl
theorem q1049 : (Jvm.Cond.instanceMethod ({ cls := "CoreSyntaxModel", name := "kind", desc := "()I" } : Jvm.MethodName)) ∈ lw_all := lw_g (lw_at lw_m4 132 rfl) rfl
theorem q1050 : (Jvm.Cond.code ({ cls := "CoreSyntaxModel", name := "kind", desc := "()I" } : Jvm.MethodName) prog_5_method_8_code (1 : Nat) (Option.some Jvm.ClassFile.FieldType.int)) ∈ lw_all := lw_g (lw_at lw_m4 133 rfl) rfl
theorem q1051 : (Jvm.Cond.methodLink "CoreSyntaxModel" (146 : Nat) ({ cls := "CoreSyntaxModel", name := "eat", desc := "(I)Z" } : Jvm.MethodName)) ∈ lw_all := lw_g (lw_at lw_m4 134 rfl) rfl
theorem q1052 : (Jvm.Cond.privateMethod ({ cls := "CoreSyntaxModel", name := "eat", desc := "(I)Z" } : Jvm.MethodName)) ∈ lw_tbl := lw_at lw_m4 135 rfl
theorem q1053 : (Jvm.Cond.instanceMethod ({ cls := "CoreSyntaxModel", name := "eat", desc := "(I)Z" } : Jvm.MethodName)) ∈ lw_all := lw_g (lw_at lw_m4 136 rfl) rfl
theorem q1054 : (Jvm.Cond.code ({ cls := "CoreSyntaxModel", name := "eat", desc := "(I)Z" } : Jvm.MethodName) prog_5_method_10_code (3 : Nat) (Option.some Jvm.ClassFile.FieldType.boolean)) ∈ lw_all := lw_g (lw_at lw_m4 137 rfl) rfl
theorem q1055 : (Jvm.Cond.methodLink "CoreSyntaxModel" (78 : Nat) ({ cls := "CoreSyntaxModel", name := "stop", desc := "()V" } : Jvm.MethodName)) ∈ lw_all := lw_g (lw_at lw_m4 138 rfl) rfl
theorem q1056 : (Jvm.Cond.privateMethod ({ cls := "CoreSyntaxModel", name := "stop", desc := "()V" } : Jvm.MethodName)) ∈ lw_tbl := lw_at lw_m4 139 rfl
theorem q1057 : (Jvm.Cond.instanceMethod ({ cls := "CoreSyntaxModel", name := "stop", desc := "()V" } : Jvm.MethodName)) ∈ lw_all := lw_g (lw_at lw_m4 140 rfl) rfl
theorem q1058 : (Jvm.Cond.code ({ cls := "CoreSyntaxModel", name := "stop", desc := "()V" } : Jvm.MethodName) prog_5_method_6_code (1 : Nat) (Option.none : Option Jvm.ClassFile.FieldType)) ∈ lw_all := lw_g (lw_at lw_m4 141 rfl) rfl
theorem q1059 : (Jvm.Cond.methodLink "CoreSyntaxModel" (70 : Nat) ({ cls := "CoreSyntaxModel", name := "fail", desc := "(II)V" } : Jvm.MethodName)) ∈ lw_all := lw_g (lw_at lw_m4 142 rfl) rfl
theorem q1060 : (Jvm.Cond.privateMethod ({ cls := "CoreSyntaxModel", name := "fail", desc := "(II)V" } : Jvm.MethodName)) ∈ lw_tbl := lw_at lw_m4 143 rfl
theorem q1061 : (Jvm.Cond.instanceMethod ({ cls := "CoreSyntaxModel", name := "fail", desc := "(II)V" } : Jvm.MethodName)) ∈ lw_all := lw_g (lw_at lw_m4 144 rfl) rfl
theorem q1062 : (Jvm.Cond.code ({ cls := "CoreSyntaxModel", name := "fail", desc := "(II)V" } : Jvm.MethodName) prog_5_method_5_code (3 : Nat) (Option.none : Option Jvm.ClassFile.FieldType)) ∈ lw_all := lw_g (lw_at lw_m4 145 rfl) rfl
theorem q1063 : (Jvm.Cond.methodLink "CoreSyntaxModel" (181 : Nat) ({ cls := "CoreSyntaxModel", name := "exp", desc := "()I" } : Jvm.MethodName)) ∈ lw_all := lw_g (lw_at lw_m4 146 rfl) rfl
theorem q1064 : (Jvm.Cond.privateMethod ({ cls := "CoreSyntaxModel", name := "exp", desc := "()I" } : Jvm.MethodName)) ∈ lw_tbl := lw_at lw_m4 147 rfl
theorem q1065 : (Jvm.Cond.instanceMethod ({ cls := "CoreSyntaxModel", name := "exp", desc := "()I" } : Jvm.MethodName)) ∈ lw_all := lw_g (lw_at lw_m4 148 rfl) rfl
theorem q1066 : (Jvm.Cond.code ({ cls := "CoreSyntaxModel", name := "exp", desc := "()I" } : Jvm.MethodName) prog_5_method_39_code (9 : Nat) (Option.some Jvm.ClassFile.FieldType.int)) ∈ lw_all := lw_g (lw_at lw_m4 149 rfl) rfl
theorem q1067 : (Jvm.Cond.methodLink "CoreSyntaxModel" (159 : Nat) ({ cls := "CoreSyntaxModel", name := "isForm", desc := "()Z" } : Jvm.MethodName)) ∈ lw_all := lw_g (lw_at lw_m4 150 rfl) rfl
theorem q1068 : (Jvm.Cond.privateMethod ({ cls := "CoreSyntaxModel", name := "isForm", desc := "()Z" } : Jvm.MethodName)) ∈ lw_tbl := lw_at lw_m4 151 rfl
theorem q1069 : (Jvm.Cond.instanceMethod ({ cls := "CoreSyntaxModel", name := "isForm", desc := "()Z" } : Jvm.MethodName)) ∈ lw_all := lw_g (lw_at lw_m4 152 rfl) rfl
theorem q1070 : (Jvm.Cond.code ({ cls := "CoreSyntaxModel", name := "isForm", desc := "()Z" } : Jvm.MethodName) prog_5_method_38_code (1 : Nat) (Option.some Jvm.ClassFile.FieldType.boolean)) ∈ lw_all := lw_g (lw_at lw_m4 153 rfl) rfl
theorem q1071 : (Jvm.Cond.methodLink "CoreSyntaxModel" (162 : Nat) ({ cls := "CoreSyntaxModel", name := "form", desc := "()I" } : Jvm.MethodName)) ∈ lw_all := lw_g (lw_at lw_m4 154 rfl) rfl
theorem q1072 : (Jvm.Cond.privateMethod ({ cls := "CoreSyntaxModel", name := "form", desc := "()I" } : Jvm.MethodName)) ∈ lw_tbl := lw_at lw_m4 155 rfl
theorem q1073 : (Jvm.Cond.instanceMethod ({ cls := "CoreSyntaxModel", name := "form", desc := "()I" } : Jvm.MethodName)) ∈ lw_all := lw_g (lw_at lw_m4 156 rfl) rfl
theorem q1074 : (Jvm.Cond.code ({ cls := "CoreSyntaxModel", name := "form", desc := "()I" } : Jvm.MethodName) prog_5_method_40_code (6 : Nat) (Option.some Jvm.ClassFile.FieldType.int)) ∈ lw_all := lw_g (lw_at lw_m4 157 rfl) rfl
theorem q1075 : (Jvm.Cond.methodLink "CoreSyntaxModel" (175 : Nat) ({ cls := "CoreSyntaxModel", name := "enter", desc := "()V" } : Jvm.MethodName)) ∈ lw_all := lw_g (lw_at lw_m4 158 rfl) rfl
theorem q1076 : (Jvm.Cond.privateMethod ({ cls := "CoreSyntaxModel", name := "enter", desc := "()V" } : Jvm.MethodName)) ∈ lw_tbl := lw_at lw_m4 159 rfl
theorem q1077 : (Jvm.Cond.instanceMethod ({ cls := "CoreSyntaxModel", name := "enter", desc := "()V" } : Jvm.MethodName)) ∈ lw_all := lw_g (lw_at lw_m4 160 rfl) rfl
theorem q1078 : (Jvm.Cond.code ({ cls := "CoreSyntaxModel", name := "enter", desc := "()V" } : Jvm.MethodName) prog_5_method_11_code (1 : Nat) (Option.none : Option Jvm.ClassFile.FieldType)) ∈ lw_all := lw_g (lw_at lw_m4 161 rfl) rfl
theorem q1079 : (Jvm.Cond.methodLink "CoreSyntaxModel" (102 : Nat) ({ cls := "CoreSyntaxModel", name := "make", desc := "(IIIII)I" } : Jvm.MethodName)) ∈ lw_all := lw_g (lw_at lw_m4 162 rfl) rfl
theorem q1080 : (Jvm.Cond.privateMethod ({ cls := "CoreSyntaxModel", name := "make", desc := "(IIIII)I" } : Jvm.MethodName)) ∈ lw_tbl := lw_at lw_m4 163 rfl
theorem q1081 : (Jvm.Cond.instanceMethod ({ cls := "CoreSyntaxModel", name := "make", desc := "(IIIII)I" } : Jvm.MethodName)) ∈ lw_all := lw_g (lw_at lw_m4 164 rfl) rfl
theorem q1082 : (Jvm.Cond.code ({ cls := "CoreSyntaxModel", name := "make", desc := "(IIIII)I" } : Jvm.MethodName) prog_5_method_12_code (6 : Nat) (Option.some Jvm.ClassFile.FieldType.int)) ∈ lw_all := lw_g (lw_at lw_m4 165 rfl) rfl
theorem q1083 : (Jvm.Cond.methodLink "CoreSyntaxModel" (84 : Nat) ({ cls := "CoreSyntaxModel$Row", name := "add", desc := "(I)V" } : Jvm.MethodName)) ∈ lw_all := lw_g (lw_at lw_m4 166 rfl) rfl
theorem q1088 : (Jvm.Cond.methodLink "CoreSyntaxModel" (178 : Nat) ({ cls := "CoreSyntaxModel", name := "match", desc := "()I" } : Jvm.MethodName)) ∈ lw_all := lw_g (lw_at lw_m4 171 rfl) rfl
theorem q1089 : (Jvm.Cond.privateMethod ({ cls := "CoreSyntaxModel", name := "match", desc := "()I" } : Jvm.MethodName)) ∈ lw_tbl := lw_at lw_m4 172 rfl
theorem q1090 : (Jvm.Cond.instanceMethod ({ cls := "CoreSyntaxModel", name := "match", desc := "()I" } : Jvm.MethodName)) ∈ lw_all := lw_g (lw_at lw_m4 173 rfl) rfl
theorem q1091 : (Jvm.Cond.code ({ cls := "CoreSyntaxModel", name := "match", desc := "()I" } : Jvm.MethodName) prog_5_method_42_code (4 : Nat) (Option.some Jvm.ClassFile.FieldType.int)) ∈ lw_all := lw_g (lw_at lw_m4 174 rfl) rfl
theorem q1092 : (Jvm.Cond.methodLink "CoreSyntaxModel" (196 : Nat) ({ cls := "CoreSyntaxModel", name := "pat", desc := "()I" } : Jvm.MethodName)) ∈ lw_all := lw_g (lw_at lw_m4 175 rfl) rfl
theorem q1093 : (Jvm.Cond.privateMethod ({ cls := "CoreSyntaxModel", name := "pat", desc := "()I" } : Jvm.MethodName)) ∈ lw_tbl := lw_at lw_m4 176 rfl
theorem q1094 : (Jvm.Cond.instanceMethod ({ cls := "CoreSyntaxModel", name := "pat", desc := "()I" } : Jvm.MethodName)) ∈ lw_all := lw_g (lw_at lw_m4 177 rfl) rfl
theorem q1095 : (Jvm.Cond.code ({ cls := "CoreSyntaxModel", name := "pat", desc := "()I" } : Jvm.MethodName) prog_5_method_53_code (7 : Nat) (Option.some Jvm.ClassFile.FieldType.int)) ∈ lw_all := lw_g (lw_at lw_m4 178 rfl) rfl
theorem q1096 : (Jvm.Cond.methodLink "CoreSyntaxModel" (262 : Nat) ({ cls := "CoreSyntaxModel", name := "isBare", desc := "()Z" } : Jvm.MethodName)) ∈ lw_all := lw_g (lw_at lw_m4 179 rfl) rfl
theorem q1097 : (Jvm.Cond.privateMethod ({ cls := "CoreSyntaxModel", name := "isBare", desc := "()Z" } : Jvm.MethodName)) ∈ lw_tbl := lw_at lw_m4 180 rfl
theorem q1098 : (Jvm.Cond.instanceMethod ({ cls := "CoreSyntaxModel", name := "isBare", desc := "()Z" } : Jvm.MethodName)) ∈ lw_all := lw_g (lw_at lw_m4 181 rfl) rfl
theorem q1099 : (Jvm.Cond.code ({ cls := "CoreSyntaxModel", name := "isBare", desc := "()Z" } : Jvm.MethodName) prog_5_method_54_code (1 : Nat) (Option.some Jvm.ClassFile.FieldType.boolean)) ∈ lw_all := lw_g (lw_at lw_m4 182 rfl) rfl
theorem q1100 : (Jvm.Cond.methodLink "CoreSyntaxModel" (139 : Nat) ({ cls := "CoreSyntaxModel", name := "isName", desc := "()Z" } : Jvm.MethodName)) ∈ lw_all := lw_g (lw_at lw_m4 183 rfl) rfl
theorem q1101 : (Jvm.Cond.privateMethod ({ cls := "CoreSyntaxModel", name := "isName", desc := "()Z" } : Jvm.MethodName)) ∈ lw_tbl := lw_at lw_m4 184 rfl
theorem q1102 : (Jvm.Cond.instanceMethod ({ cls := "CoreSyntaxModel", name := "isName", desc := "()Z" } : Jvm.MethodName)) ∈ lw_all := lw_g (lw_at lw_m4 185 rfl) rfl
theorem q1103 : (Jvm.Cond.code ({ cls := "CoreSyntaxModel", name := "isName", desc := "()Z" } : Jvm.MethodName) prog_5_method_28_code (1 : Nat) (Option.some Jvm.ClassFile.FieldType.boolean)) ∈ lw_all := lw_g (lw_at lw_m4 186 rfl) rfl
theorem q1104 : (Jvm.Cond.methodLink "CoreSyntaxModel" (143 : Nat) ({ cls := "CoreSyntaxModel", name := "isOperator", desc := "()Z" } : Jvm.MethodName)) ∈ lw_all := lw_g (lw_at lw_m4 187 rfl) rfl
theorem q1105 : (Jvm.Cond.privateMethod ({ cls := "CoreSyntaxModel", name := "isOperator", desc := "()Z" } : Jvm.MethodName)) ∈ lw_tbl := lw_at lw_m4 188 rfl
theorem q1106 : (Jvm.Cond.instanceMethod ({ cls := "CoreSyntaxModel", name := "isOperator", desc := "()Z" } : Jvm.MethodName)) ∈ lw_all := lw_g (lw_at lw_m4 189 rfl) rfl
theorem q1107 : (Jvm.Cond.code ({ cls := "CoreSyntaxModel", name := "isOperator", desc := "()Z" } : Jvm.MethodName) prog_5_method_29_code (1 : Nat) (Option.some Jvm.ClassFile.FieldType.boolean)) ∈ lw_all := lw_g (lw_at lw_m4 190 rfl) rfl
theorem q1108 : (Jvm.Cond.methodLink "CoreSyntaxModel" (165 : Nat) ({ cls := "CoreSyntaxModel", name := "infix", desc := "(Z)I" } : Jvm.MethodName)) ∈ lw_all := lw_g (lw_at lw_m4 191 rfl) rfl
theorem q1109 : (Jvm.Cond.privateMethod ({ cls := "CoreSyntaxModel", name := "infix", desc := "(Z)I" } : Jvm.MethodName)) ∈ lw_tbl := lw_at lw_m4 192 rfl
theorem q1110 : (Jvm.Cond.instanceMethod ({ cls := "CoreSyntaxModel", name := "infix", desc := "(Z)I" } : Jvm.MethodName)) ∈ lw_all := lw_g (lw_at lw_m4 193 rfl) rfl
theorem q1111 : (Jvm.Cond.code ({ cls := "CoreSyntaxModel", name := "infix", desc := "(Z)I" } : Jvm.MethodName) prog_5_method_46_code (6 : Nat) (Option.some Jvm.ClassFile.FieldType.int)) ∈ lw_all := lw_g (lw_at lw_m4 194 rfl) rfl
theorem q1112 : (Jvm.Cond.methodLink "CoreSyntaxModel" (199 : Nat) ({ cls := "CoreSyntaxModel", name := "applied", desc := "()I" } : Jvm.MethodName)) ∈ lw_all := lw_g (lw_at lw_m4 195 rfl) rfl
theorem q1113 : (Jvm.Cond.privateMethod ({ cls := "CoreSyntaxModel", name := "applied", desc := "()I" } : Jvm.MethodName)) ∈ lw_tbl := lw_at lw_m4 196 rfl
theorem q1114 : (Jvm.Cond.instanceMethod ({ cls := "CoreSyntaxModel", name := "applied", desc := "()I" } : Jvm.MethodName)) ∈ lw_all := lw_g (lw_at lw_m4 197 rfl) rfl
theorem q1115 : (Jvm.Cond.code ({ cls := "CoreSyntaxModel", name := "applied", desc := "()I" } : Jvm.MethodName) prog_5_method_55_code (4 : Nat) (Option.some Jvm.ClassFile.FieldType.int)) ∈ lw_all := lw_g (lw_at lw_m4 198 rfl) rfl
theorem q1116 : (Jvm.Cond.methodLink "CoreSyntaxModel" (222 : Nat) ({ cls := "CoreSyntaxModel", name := "isId", desc := "()Z" } : Jvm.MethodName)) ∈ lw_all := lw_g (lw_at lw_m4 199 rfl) rfl
theorem q1117 : (Jvm.Cond.privateMethod ({ cls := "CoreSyntaxModel", name := "isId", desc := "()Z" } : Jvm.MethodName)) ∈ lw_tbl := lw_at lw_m4 200 rfl
theorem q1118 : (Jvm.Cond.instanceMethod ({ cls := "CoreSyntaxModel", name := "isId", desc := "()Z" } : Jvm.MethodName)) ∈ lw_all := lw_g (lw_at lw_m4 201 rfl) rfl
theorem q1119 : (Jvm.Cond.code ({ cls := "CoreSyntaxModel", name := "isId", desc := "()Z" } : Jvm.MethodName) prog_5_method_30_code (1 : Nat) (Option.some Jvm.ClassFile.FieldType.boolean)) ∈ lw_all := lw_g (lw_at lw_m4 202 rfl) rfl
theorem q1120 : (Jvm.Cond.methodLink "CoreSyntaxModel" (265 : Nat) ({ cls := "CoreSyntaxModel", name := "atomicPattern", desc := "()I" } : Jvm.MethodName)) ∈ lw_all := lw_g (lw_at lw_m4 203 rfl) rfl
theorem q1121 : (Jvm.Cond.privateMethod ({ cls := "CoreSyntaxModel", name := "atomicPattern", desc := "()I" } : Jvm.MethodName)) ∈ lw_tbl := lw_at lw_m4 204 rfl
theorem q1122 : (Jvm.Cond.instanceMethod ({ cls := "CoreSyntaxModel", name := "atomicPattern", desc := "()I" } : Jvm.MethodName)) ∈ lw_all := lw_g (lw_at lw_m4 205 rfl) rfl
theorem q1123 : (Jvm.Cond.code ({ cls := "CoreSyntaxModel", name := "atomicPattern", desc := "()I" } : Jvm.MethodName) prog_5_method_56_code (4 : Nat) (Option.some Jvm.ClassFile.FieldType.int)) ∈ lw_all := lw_g (lw_at lw_m4 206 rfl) rfl
theorem q1124 : (Jvm.Cond.methodLink "CoreSyntaxModel" (219 : Nat) ({ cls := "CoreSyntaxModel", name := "isConstant", desc := "()Z" } : Jvm.MethodName)) ∈ lw_all := lw_g (lw_at lw_m4 207 rfl) rfl
theorem q1125 : (Jvm.Cond.privateMethod ({ cls := "CoreSyntaxModel", name := "isConstant", desc := "()Z" } : Jvm.MethodName)) ∈ lw_tbl := lw_at lw_m4 208 rfl
theorem q1126 : (Jvm.Cond.instanceMethod ({ cls := "CoreSyntaxModel", name := "isConstant", desc := "()Z" } : Jvm.MethodName)) ∈ lw_all := lw_g (lw_at lw_m4 209 rfl) rfl
theorem q1127 : (Jvm.Cond.code ({ cls := "CoreSyntaxModel", name := "isConstant", desc := "()Z" } : Jvm.MethodName) prog_5_method_31_code (1 : Nat) (Option.some Jvm.ClassFile.FieldType.boolean)) ∈ lw_all := lw_g (lw_at lw_m4 210 rfl) rfl
theorem q1128 : (Jvm.Cond.methodLink "CoreSyntaxModel" (225 : Nat) ({ cls := "CoreSyntaxModel", name := "id", desc := "(Z)I" } : Jvm.MethodName)) ∈ lw_all := lw_g (lw_at lw_m4 211 rfl) rfl
theorem q1129 : (Jvm.Cond.privateMethod ({ cls := "CoreSyntaxModel", name := "id", desc := "(Z)I" } : Jvm.MethodName)) ∈ lw_tbl := lw_at lw_m4 212 rfl
theorem q1130 : (Jvm.Cond.instanceMethod ({ cls := "CoreSyntaxModel", name := "id", desc := "(Z)I" } : Jvm.MethodName)) ∈ lw_all := lw_g (lw_at lw_m4 213 rfl) rfl
theorem q1131 : (Jvm.Cond.code ({ cls := "CoreSyntaxModel", name := "id", desc := "(Z)I" } : Jvm.MethodName) prog_5_method_32_code (3 : Nat) (Option.some Jvm.ClassFile.FieldType.int)) ∈ lw_all := lw_g (lw_at lw_m4 214 rfl) rfl
theorem q1132 : (Jvm.Cond.methodLink "CoreSyntaxModel" (271 : Nat) ({ cls := "CoreSyntaxModel", name := "recordPattern", desc := "()I" } : Jvm.MethodName)) ∈ lw_all := lw_g (lw_at lw_m4 215 rfl) rfl
theorem q1133 : (Jvm.Cond.privateMethod ({ cls := "CoreSyntaxModel", name := "recordPattern", desc := "()I" } : Jvm.MethodName)) ∈ lw_tbl := lw_at lw_m4 216 rfl
theorem q1134 : (Jvm.Cond.instanceMethod ({ cls := "CoreSyntaxModel", name := "recordPattern", desc := "()I" } : Jvm.MethodName)) ∈ lw_all := lw_g (lw_at lw_m4 217 rfl) rfl
theorem q1135 : (Jvm.Cond.code ({ cls := "CoreSyntaxModel", name := "recordPattern", desc := "()I" } : Jvm.MethodName) prog_5_method_57_code (5 : Nat) (Option.some Jvm.ClassFile.FieldType.int)) ∈ lw_all := lw_g (lw_at lw_m4 218 rfl) rfl
theorem q1136 : (Jvm.Cond.methodLink "CoreSyntaxModel" (274 : Nat) ({ cls := "CoreSyntaxModel", name := "field", desc := "(I)I" } : Jvm.MethodName)) ∈ lw_all := lw_g (lw_at lw_m4 219 rfl) rfl
theorem q1137 : (Jvm.Cond.privateMethod ({ cls := "CoreSyntaxModel", name := "field", desc := "(I)I" } : Jvm.MethodName)) ∈ lw_tbl := lw_at lw_m4 220 rfl
theorem q1138 : (Jvm.Cond.instanceMethod ({ cls := "CoreSyntaxModel", name := "field", desc := "(I)I" } : Jvm.MethodName)) ∈ lw_all := lw_g (lw_at lw_m4 221 rfl) rfl
theorem q1139 : (Jvm.Cond.code ({ cls := "CoreSyntaxModel", name := "field", desc := "(I)I" } : Jvm.MethodName) prog_5_method_58_code (7 : Nat) (Option.some Jvm.ClassFile.FieldType.int)) ∈ lw_all := lw_g (lw_at lw_m4 222 rfl) rfl
theorem q1140 : (Jvm.Cond.methodLink "CoreSyntaxModel" (256 : Nat) ({ cls := "CoreSyntaxModel", name := "checkLabel", desc := "(I)V" } : Jvm.MethodName)) ∈ lw_all := lw_g (lw_at lw_m4 223 rfl) rfl
theorem q1141 : (Jvm.Cond.privateMethod ({ cls := "CoreSyntaxModel", name := "checkLabel", desc := "(I)V" } : Jvm.MethodName)) ∈ lw_tbl := lw_at lw_m4 224 rfl
theorem q1142 : (Jvm.Cond.instanceMethod ({ cls := "CoreSyntaxModel", name := "checkLabel", desc := "(I)V" } : Jvm.MethodName)) ∈ lw_all := lw_g (lw_at lw_m4 225 rfl) rfl
theorem q1143 : (Jvm.Cond.code ({ cls := "CoreSyntaxModel", name := "checkLabel", desc := "(I)V" } : Jvm.MethodName) prog_5_method_36_code (4 : Nat) (Option.none : Option Jvm.ClassFile.FieldType)) ∈ lw_all := lw_g (lw_at lw_m4 226 rfl) rfl
theorem q1144 : (Jvm.Cond.methodLink "CoreSyntaxModel" (152 : Nat) ({ cls := "CoreSyntaxModel", name := "isLabel", desc := "()Z" } : Jvm.MethodName)) ∈ lw_all := lw_g (lw_at lw_m4 227 rfl) rfl
theorem q1145 : (Jvm.Cond.privateMethod ({ cls := "CoreSyntaxModel", name := "isLabel", desc := "()Z" } : Jvm.MethodName)) ∈ lw_tbl := lw_at lw_m4 228 rfl
theorem q1146 : (Jvm.Cond.instanceMethod ({ cls := "CoreSyntaxModel", name := "isLabel", desc := "()Z" } : Jvm.MethodName)) ∈ lw_all := lw_g (lw_at lw_m4 229 rfl) rfl
theorem q1147 : (Jvm.Cond.code ({ cls := "CoreSyntaxModel", name := "isLabel", desc := "()Z" } : Jvm.MethodName) prog_5_method_33_code (1 : Nat) (Option.some Jvm.ClassFile.FieldType.boolean)) ∈ lw_all := lw_g (lw_at lw_m4 230 rfl) rfl
theorem q1148 : (Jvm.Cond.methodLink "CoreSyntaxModel" (241 : Nat) ({ cls := "CoreSyntaxModel", name := "label", desc := "()I" } : Jvm.MethodName)) ∈ lw_all := lw_g (lw_at lw_m4 231 rfl) rfl
theorem q1149 : (Jvm.Cond.privateMethod ({ cls := "CoreSyntaxModel", name := "label", desc := "()I" } : Jvm.MethodName)) ∈ lw_tbl := lw_at lw_m4 232 rfl
theorem q1150 : (Jvm.Cond.instanceMethod ({ cls := "CoreSyntaxModel", name := "label", desc := "()I" } : Jvm.MethodName)) ∈ lw_all := lw_g (lw_at lw_m4 233 rfl) rfl
theorem q1151 : (Jvm.Cond.code ({ cls := "CoreSyntaxModel", name := "label", desc := "()I" } : Jvm.MethodName) prog_5_method_34_code (2 : Nat) (Option.some Jvm.ClassFile.FieldType.int)) ∈ lw_all := lw_g (lw_at lw_m4 234 rfl) rfl
theorem q1152 : (Jvm.Cond.methodLink "CoreSyntaxModel" (184 : Nat) ({ cls := "CoreSyntaxModel", name := "need", desc := "(I)V" } : Jvm.MethodName)) ∈ lw_all := lw_g (lw_at lw_m4 235 rfl) rfl
theorem q1153 : (Jvm.Cond.privateMethod ({ cls := "CoreSyntaxModel", name := "need", desc := "(I)V" } : Jvm.MethodName)) ∈ lw_tbl := lw_at lw_m4 236 rfl
theorem q1154 : (Jvm.Cond.instanceMethod ({ cls := "CoreSyntaxModel", name := "need", desc := "(I)V" } : Jvm.MethodName)) ∈ lw_all := lw_g (lw_at lw_m4 237 rfl) rfl
theorem q1155 : (Jvm.Cond.code ({ cls := "CoreSyntaxModel", name := "need", desc := "(I)V" } : Jvm.MethodName) prog_5_method_9_code (2 : Nat) (Option.none : Option Jvm.ClassFile.FieldType)) ∈ lw_all := lw_g (lw_at lw_m4 238 rfl) rfl
theorem q1156 : (Jvm.Cond.methodLink "CoreSyntaxModel" (119 : Nat) ({ cls := "CoreSyntaxModel", name := "variable", desc := "(II)I" } : Jvm.MethodName)) ∈ lw_all := lw_g (lw_at lw_m4 239 rfl) rfl
theorem q1157 : (Jvm.Cond.privateMethod ({ cls := "CoreSyntaxModel", name := "variable", desc := "(II)I" } : Jvm.MethodName)) ∈ lw_tbl := lw_at lw_m5 0 rfl
theorem q1158 : (Jvm.Cond.instanceMethod ({ cls := "CoreSyntaxModel", name := "variable", desc := "(II)I" } : Jvm.MethodName)) ∈ lw_all := lw_g (lw_at lw_m5 1 rfl) rfl
theorem q1159 : (Jvm.Cond.code ({ cls := "CoreSyntaxModel", name := "variable", desc := "(II)I" } : Jvm.MethodName) prog_5_method_21_code (3 : Nat) (Option.some Jvm.ClassFile.FieldType.int)) ∈ lw_all := lw_g (lw_at lw_m5 2 rfl) rfl
theorem q1160 : (Jvm.Cond.methodLink "CoreSyntaxModel" (169 : Nat) ({ cls := "CoreSyntaxModel", name := "type", desc := "()I" } : Jvm.MethodName)) ∈ lw_all := lw_g (lw_at lw_m5 3 rfl) rfl
theorem q1161 : (Jvm.Cond.privateMethod ({ cls := "CoreSyntaxModel", name := "type", desc := "()I" } : Jvm.MethodName)) ∈ lw_tbl := lw_at lw_m5 4 rfl
theorem q1162 : (Jvm.Cond.instanceMethod ({ cls := "CoreSyntaxModel", name := "type", desc := "()I" } : Jvm.MethodName)) ∈ lw_all := lw_g (lw_at lw_m5 5 rfl) rfl
theorem q1163 : (Jvm.Cond.code ({ cls := "CoreSyntaxModel", name := "type", desc := "()I" } : Jvm.MethodName) prog_5_method_60_code (4 : Nat) (Option.some Jvm.ClassFile.FieldType.int)) ∈ lw_all := lw_g (lw_at lw_m5 6 rfl) rfl
theorem q1164 : (Jvm.Cond.methodLink "CoreSyntaxModel" (277 : Nat) ({ cls := "CoreSyntaxModel", name := "product", desc := "()I" } : Jvm.MethodName)) ∈ lw_all := lw_g (lw_at lw_m5 7 rfl) rfl
theorem q1165 : (Jvm.Cond.privateMethod ({ cls := "CoreSyntaxModel", name := "product", desc := "()I" } : Jvm.MethodName)) ∈ lw_tbl := lw_at lw_m5 8 rfl
theorem q1166 : (Jvm.Cond.instanceMethod ({ cls := "CoreSyntaxModel", name := "product", desc := "()I" } : Jvm.MethodName)) ∈ lw_all := lw_g (lw_at lw_m5 9 rfl) rfl
theorem q1167 : (Jvm.Cond.code ({ cls := "CoreSyntaxModel", name := "product", desc := "()I" } : Jvm.MethodName) prog_5_method_61_code (3 : Nat) (Option.some Jvm.ClassFile.FieldType.int)) ∈ lw_all := lw_g (lw_at lw_m5 10 rfl) rfl
theorem q1168 : (Jvm.Cond.methodLink "CoreSyntaxModel" (280 : Nat) ({ cls := "CoreSyntaxModel", name := "appliedType", desc := "()I" } : Jvm.MethodName)) ∈ lw_all := lw_g (lw_at lw_m5 11 rfl) rfl
theorem q1169 : (Jvm.Cond.privateMethod ({ cls := "CoreSyntaxModel", name := "appliedType", desc := "()I" } : Jvm.MethodName)) ∈ lw_tbl := lw_at lw_m5 12 rfl
theorem q1170 : (Jvm.Cond.instanceMethod ({ cls := "CoreSyntaxModel", name := "appliedType", desc := "()I" } : Jvm.MethodName)) ∈ lw_all := lw_g (lw_at lw_m5 13 rfl) rfl
theorem q1171 : (Jvm.Cond.code ({ cls := "CoreSyntaxModel", name := "appliedType", desc := "()I" } : Jvm.MethodName) prog_5_method_63_code (3 : Nat) (Option.some Jvm.ClassFile.FieldType.int)) ∈ lw_all := lw_g (lw_at lw_m5 14 rfl) rfl
theorem q1172 : (Jvm.Cond.methodLink "CoreSyntaxModel" (286 : Nat) ({ cls := "CoreSyntaxModel", name := "firstType", desc := "()I" } : Jvm.MethodName)) ∈ lw_all := lw_g (lw_at lw_m5 15 rfl) rfl
theorem q1173 : (Jvm.Cond.privateMethod ({ cls := "CoreSyntaxModel", name := "firstType", desc := "()I" } : Jvm.MethodName)) ∈ lw_tbl := lw_at lw_m5 16 rfl
theorem q1174 : (Jvm.Cond.instanceMethod ({ cls := "CoreSyntaxModel", name := "firstType", desc := "()I" } : Jvm.MethodName)) ∈ lw_all := lw_g (lw_at lw_m5 17 rfl) rfl
theorem q1175 : (Jvm.Cond.code ({ cls := "CoreSyntaxModel", name := "firstType", desc := "()I" } : Jvm.MethodName) prog_5_method_64_code (3 : Nat) (Option.some Jvm.ClassFile.FieldType.int)) ∈ lw_all := lw_g (lw_at lw_m5 18 rfl) rfl
theorem q1176 : (Jvm.Cond.methodLink "CoreSyntaxModel" (292 : Nat) ({ cls := "CoreSyntaxModel", name := "recordType", desc := "()I" } : Jvm.MethodName)) ∈ lw_all := lw_g (lw_at lw_m5 19 rfl) rfl
theorem q1177 : (Jvm.Cond.privateMethod ({ cls := "CoreSyntaxModel", name := "recordType", desc := "()I" } : Jvm.MethodName)) ∈ lw_tbl := lw_at lw_m5 20 rfl
theorem q1178 : (Jvm.Cond.instanceMethod ({ cls := "CoreSyntaxModel", name := "recordType", desc := "()I" } : Jvm.MethodName)) ∈ lw_all := lw_g (lw_at lw_m5 21 rfl) rfl
theorem q1179 : (Jvm.Cond.code ({ cls := "CoreSyntaxModel", name := "recordType", desc := "()I" } : Jvm.MethodName) prog_5_method_65_code (5 : Nat) (Option.some Jvm.ClassFile.FieldType.int)) ∈ lw_all := lw_g (lw_at lw_m5 22 rfl) rfl
theorem q1180 : (Jvm.Cond.methodLink "CoreSyntaxModel" (259 : Nat) ({ cls := "CoreSyntaxModel", name := "sort", desc := "(I)V" } : Jvm.MethodName)) ∈ lw_all := lw_g (lw_at lw_m5 23 rfl) rfl
theorem q1181 : (Jvm.Cond.privateMethod ({ cls := "CoreSyntaxModel", name := "sort", desc := "(I)V" } : Jvm.MethodName)) ∈ lw_tbl := lw_at lw_m5 24 rfl
theorem q1182 : (Jvm.Cond.instanceMethod ({ cls := "CoreSyntaxModel", name := "sort", desc := "(I)V" } : Jvm.MethodName)) ∈ lw_all := lw_g (lw_at lw_m5 25 rfl) rfl
theorem q1183 : (Jvm.Cond.code ({ cls := "CoreSyntaxModel", name := "sort", desc := "(I)V" } : Jvm.MethodName) prog_5_method_37_code (5 : Nat) (Option.none : Option Jvm.ClassFile.FieldType)) ∈ lw_all := lw_g (lw_at lw_m5 26 rfl) rfl
theorem q1184 : (Jvm.Cond.methodLink "CoreSyntaxModel" (156 : Nat) ({ cls := "CoreSyntaxModel", name := "rank", desc := "(I)I" } : Jvm.MethodName)) ∈ lw_all := lw_g (lw_at lw_m5 27 rfl) rfl
theorem q1185 : (Jvm.Cond.static ({ cls := "CoreSyntaxModel", name := "rank", desc := "(I)I" } : Jvm.MethodName)) ∈ lw_all := lw_g (lw_at lw_m5 28 rfl) rfl
theorem q1186 : (Jvm.Cond.code ({ cls := "CoreSyntaxModel", name := "rank", desc := "(I)I" } : Jvm.MethodName) prog_5_method_35_code (1 : Nat) (Option.some Jvm.ClassFile.FieldType.int)) ∈ lw_all := lw_g (lw_at lw_m5 29 rfl) rfl
theorem q1187 : (Jvm.Cond.constant "CoreSyntaxModel" (155 : Nat) (1000000 : Int32)) ∈ lw_all := lw_g (lw_at lw_m5 30 rfl) rfl
theorem q1188 : (Jvm.Cond.methodLink "CoreSyntaxModel" (112 : Nat) ({ cls := "CoreSyntaxModel", name := "list", desc := "(I)I" } : Jvm.MethodName)) ∈ lw_all := lw_g (lw_at lw_m5 31 rfl) rfl
theorem q1189 : (Jvm.Cond.privateMethod ({ cls := "CoreSyntaxModel", name := "list", desc := "(I)I" } : Jvm.MethodName)) ∈ lw_tbl := lw_at lw_m5 32 rfl
theorem q1190 : (Jvm.Cond.instanceMethod ({ cls := "CoreSyntaxModel", name := "list", desc := "(I)I" } : Jvm.MethodName)) ∈ lw_all := lw_g (lw_at lw_m5 33 rfl) rfl
theorem q1191 : (Jvm.Cond.code ({ cls := "CoreSyntaxModel", name := "list", desc := "(I)I" } : Jvm.MethodName) prog_5_method_14_code (4 : Nat) (Option.some Jvm.ClassFile.FieldType.int)) ∈ lw_all := lw_g (lw_at lw_m5 34 rfl) rfl
theorem q1192 : (Jvm.Cond.methodLink "CoreSyntaxModel" (94 : Nat) ({ cls := "CoreSyntaxModel$Row", name := "take", desc := "()I" } : Jvm.MethodName)) ∈ lw_all := lw_g (lw_at lw_m5 35 rfl) rfl
theorem q1196 : (Jvm.Cond.methodLink "CoreSyntaxModel" (98 : Nat) ({ cls := "CoreSyntaxModel", name := "placeOf", desc := "(I)I" } : Jvm.MethodName)) ∈ lw_all := lw_g (lw_at lw_m5 39 rfl) rfl
theorem q1197 : (Jvm.Cond.privateMethod ({ cls := "CoreSyntaxModel", name := "placeOf", desc := "(I)I" } : Jvm.MethodName)) ∈ lw_tbl := lw_at lw_m5 40 rfl
theorem q1198 : (Jvm.Cond.instanceMethod ({ cls := "CoreSyntaxModel", name := "placeOf", desc := "(I)I" } : Jvm.MethodName)) ∈ lw_all := lw_g (lw_at lw_m5 41 rfl) rfl
theorem q1199 : (Jvm.Cond.code ({ cls := "CoreSyntaxModel", name := "placeOf", desc := "(I)I" } : Jvm.MethodName) prog_5_method_13_code (2 : Nat) (Option.some Jvm.ClassFile.FieldType.int)) ∈ lw_all := lw_g (lw_at lw_m5 42 rfl) rfl
theorem q1200 : (Jvm.Cond.methodLink "CoreSyntaxModel" (289 : Nat) ({ cls := "CoreSyntaxModel", name := "built", desc := "(II)I" } : Jvm.MethodName)) ∈ lw_all := lw_g (lw_at lw_m5 43 rfl) rfl
theorem q1201 : (Jvm.Cond.privateMethod ({ cls := "CoreSyntaxModel", name := "built", desc := "(II)I" } : Jvm.MethodName)) ∈ lw_tbl := lw_at lw_m5 44 rfl
theorem q1202 : (Jvm.Cond.instanceMethod ({ cls := "CoreSyntaxModel", name := "built", desc := "(II)I" } : Jvm.MethodName)) ∈ lw_all := lw_g (lw_at lw_m5 45 rfl) rfl
theorem q1203 : (Jvm.Cond.code ({ cls := "CoreSyntaxModel", name := "built", desc := "(II)I" } : Jvm.MethodName) prog_5_method_62_code (5 : Nat) (Option.some Jvm.ClassFile.FieldType.int)) ∈ lw_all := lw_g (lw_at lw_m5 46 rfl) rfl
theorem q1204 : (Jvm.Cond.methodLink "CoreSyntaxModel" (283 : Nat) ({ cls := "CoreSyntaxModel", name := "isConstructor", desc := "()Z" } : Jvm.MethodName)) ∈ lw_all := lw_g (lw_at lw_m5 47 rfl) rfl
theorem q1205 : (Jvm.Cond.privateMethod ({ cls := "CoreSyntaxModel", name := "isConstructor", desc := "()Z" } : Jvm.MethodName)) ∈ lw_tbl := lw_at lw_m5 48 rfl
theorem q1206 : (Jvm.Cond.instanceMethod ({ cls := "CoreSyntaxModel", name := "isConstructor", desc := "()Z" } : Jvm.MethodName)) ∈ lw_all := lw_g (lw_at lw_m5 49 rfl) rfl
theorem q1207 : (Jvm.Cond.code ({ cls := "CoreSyntaxModel", name := "isConstructor", desc := "()Z" } : Jvm.MethodName) prog_5_method_59_code (1 : Nat) (Option.some Jvm.ClassFile.FieldType.boolean)) ∈ lw_all := lw_g (lw_at lw_m5 50 rfl) rfl
theorem q1208 : (Jvm.Cond.methodLink "CoreSyntaxModel" (106 : Nat) ({ cls := "CoreSyntaxModel", name := "listOf", desc := "(I)I" } : Jvm.MethodName)) ∈ lw_all := lw_g (lw_at lw_m5 51 rfl) rfl
theorem q1209 : (Jvm.Cond.privateMethod ({ cls := "CoreSyntaxModel", name := "listOf", desc := "(I)I" } : Jvm.MethodName)) ∈ lw_tbl := lw_at lw_m5 52 rfl
theorem q1210 : (Jvm.Cond.instanceMethod ({ cls := "CoreSyntaxModel", name := "listOf", desc := "(I)I" } : Jvm.MethodName)) ∈ lw_all := lw_g (lw_at lw_m5 53 rfl) rfl
theorem q1211 : (Jvm.Cond.code ({ cls := "CoreSyntaxModel", name := "listOf", desc := "(I)I" } : Jvm.MethodName) prog_5_method_15_code (2 : Nat) (Option.some Jvm.ClassFile.FieldType.int)) ∈ lw_all := lw_g (lw_at lw_m5 54 rfl) rfl
theorem q1212 : (Jvm.Cond.methodLink "CoreSyntaxModel" (253 : Nat) ({ cls := "CoreSyntaxModel", name := "tuple", desc := "(III)I" } : Jvm.MethodName)) ∈ lw_all := lw_g (lw_at lw_m5 55 rfl) rfl
theorem q1213 : (Jvm.Cond.privateMethod ({ cls := "CoreSyntaxModel", name := "tuple", desc := "(III)I" } : Jvm.MethodName)) ∈ lw_tbl := lw_at lw_m5 56 rfl
theorem q1214 : (Jvm.Cond.instanceMethod ({ cls := "CoreSyntaxModel", name := "tuple", desc := "(III)I" } : Jvm.MethodName)) ∈ lw_all := lw_g (lw_at lw_m5 57 rfl) rfl
theorem q1215 : (Jvm.Cond.code ({ cls := "CoreSyntaxModel", name := "tuple", desc := "(III)I" } : Jvm.MethodName) prog_5_method_19_code (5 : Nat) (Option.some Jvm.ClassFile.FieldType.int)) ∈ lw_all := lw_g (lw_at lw_m5 58 rfl) rfl
theorem q1216 : (Jvm.Cond.methodLink "CoreSyntaxModel" (234 : Nat) ({ cls := "CoreSyntaxModel", name := "chain", desc := "(ZII)I" } : Jvm.MethodName)) ∈ lw_all := lw_g (lw_at lw_m5 59 rfl) rfl
theorem q1217 : (Jvm.Cond.privateMethod ({ cls := "CoreSyntaxModel", name := "chain", desc := "(ZII)I" } : Jvm.MethodName)) ∈ lw_tbl := lw_at lw_m5 60 rfl
theorem q1218 : (Jvm.Cond.instanceMethod ({ cls := "CoreSyntaxModel", name := "chain", desc := "(ZII)I" } : Jvm.MethodName)) ∈ lw_all := lw_g (lw_at lw_m5 61 rfl) rfl
theorem q1219 : (Jvm.Cond.code ({ cls := "CoreSyntaxModel", name := "chain", desc := "(ZII)I" } : Jvm.MethodName) prog_5_method_26_code (6 : Nat) (Option.some Jvm.ClassFile.FieldType.int)) ∈ lw_all := lw_g (lw_at lw_m5 62 rfl) rfl
theorem q1220 : (Jvm.Cond.methodLink "CoreSyntaxModel" (126 : Nat) ({ cls := "CoreSyntaxModel", name := "name", desc := "(II)I" } : Jvm.MethodName)) ∈ lw_all := lw_g (lw_at lw_m5 63 rfl) rfl
theorem q1221 : (Jvm.Cond.privateMethod ({ cls := "CoreSyntaxModel", name := "name", desc := "(II)I" } : Jvm.MethodName)) ∈ lw_tbl := lw_at lw_m5 64 rfl
theorem q1222 : (Jvm.Cond.instanceMethod ({ cls := "CoreSyntaxModel", name := "name", desc := "(II)I" } : Jvm.MethodName)) ∈ lw_all := lw_g (lw_at lw_m5 65 rfl) rfl
theorem q1223 : (Jvm.Cond.code ({ cls := "CoreSyntaxModel", name := "name", desc := "(II)I" } : Jvm.MethodName) prog_5_method_20_code (3 : Nat) (Option.some Jvm.ClassFile.FieldType.int)) ∈ lw_all := lw_g (lw_at lw_m5 66 rfl) rfl
theorem q1224 : (Jvm.Cond.methodLink "CoreSyntaxModel" (129 : Nat) ({ cls := "CoreSyntaxModel", name := "couple", desc := "(IIII)I" } : Jvm.MethodName)) ∈ lw_all := lw_g (lw_at lw_m5 67 rfl) rfl
theorem q1225 : (Jvm.Cond.privateMethod ({ cls := "CoreSyntaxModel", name := "couple", desc := "(IIII)I" } : Jvm.MethodName)) ∈ lw_tbl := lw_at lw_m5 68 rfl
theorem q1226 : (Jvm.Cond.instanceMethod ({ cls := "CoreSyntaxModel", name := "couple", desc := "(IIII)I" } : Jvm.MethodName)) ∈ lw_all := lw_g (lw_at lw_m5 69 rfl) rfl
theorem q1227 : (Jvm.Cond.code ({ cls := "CoreSyntaxModel", name := "couple", desc := "(IIII)I" } : Jvm.MethodName) prog_5_method_18_code (6 : Nat) (Option.some Jvm.ClassFile.FieldType.int)) ∈ lw_all := lw_g (lw_at lw_m5 70 rfl) rfl
theorem q1228 : (Jvm.Cond.methodLink "CoreSyntaxModel" (109 : Nat) ({ cls := "CoreSyntaxModel", name := "listOf", desc := "(II)I" } : Jvm.MethodName)) ∈ lw_all := lw_g (lw_at lw_m5 71 rfl) rfl
theorem q1229 : (Jvm.Cond.privateMethod ({ cls := "CoreSyntaxModel", name := "listOf", desc := "(II)I" } : Jvm.MethodName)) ∈ lw_tbl := lw_at lw_m5 72 rfl
theorem q1230 : (Jvm.Cond.instanceMethod ({ cls := "CoreSyntaxModel", name := "listOf", desc := "(II)I" } : Jvm.MethodName)) ∈ lw_all := lw_g (lw_at lw_m5 73 rfl) rfl
theorem q1231 : (Jvm.Cond.code ({ cls := "CoreSyntaxModel", name := "listOf", desc := "(II)I" } : Jvm.MethodName) prog_5_method_16_code (3 : Nat) (Option.some Jvm.ClassFile.FieldType.int)) ∈ lw_all := lw_g (lw_at lw_m5 74 rfl) rfl
theorem q1232 : (Jvm.Cond.methodLink "CoreSyntaxModel" (268 : Nat) ({ cls := "CoreSyntaxModel", name := "isAtomicPattern", desc := "()Z" } : Jvm.MethodName)) ∈ lw_all := lw_g (lw_at lw_m5 75 rfl) rfl
theorem q1233 : (Jvm.Cond.privateMethod ({ cls := "CoreSyntaxModel", name := "isAtomicPattern", desc := "()Z" } : Jvm.MethodName)) ∈ lw_tbl := lw_at lw_m5 76 rfl
theorem q1234 : (Jvm.Cond.instanceMethod ({ cls := "CoreSyntaxModel", name := "isAtomicPattern", desc := "()Z" } : Jvm.MethodName)) ∈ lw_all := lw_g (lw_at lw_m5 77 rfl) rfl
theorem q1235 : (Jvm.Cond.code ({ cls := "CoreSyntaxModel", name := "isAtomicPattern", desc := "()Z" } : Jvm.MethodName) prog_5_method_52_code (1 : Nat) (Option.some Jvm.ClassFile.FieldType.boolean)) ∈ lw_all := lw_g (lw_at lw_m5 78 rfl) rfl
theorem q1236 : (Jvm.Cond.methodLink "CoreSyntaxModel" (202 : Nat) ({ cls := "CoreSyntaxModel", name := "atomic", desc := "()I" } : Jvm.MethodName)) ∈ lw_all := lw_g (lw_at lw_m5 79 rfl) rfl
theorem q1237 : (Jvm.Cond.privateMethod ({ cls := "CoreSyntaxModel", name := "atomic", desc := "()I" } : Jvm.MethodName)) ∈ lw_tbl := lw_at lw_m5 80 rfl
theorem q1238 : (Jvm.Cond.instanceMethod ({ cls := "CoreSyntaxModel", name := "atomic", desc := "()I" } : Jvm.MethodName)) ∈ lw_all := lw_g (lw_at lw_m5 81 rfl) rfl
theorem q1239 : (Jvm.Cond.code ({ cls := "CoreSyntaxModel", name := "atomic", desc := "()I" } : Jvm.MethodName) prog_5_method_48_code (6 : Nat) (Option.some Jvm.ClassFile.FieldType.int)) ∈ lw_all := lw_g (lw_at lw_m5 82 rfl) rfl
theorem q1240 : (Jvm.Cond.methodLink "CoreSyntaxModel" (228 : Nat) ({ cls := "CoreSyntaxModel", name := "round", desc := "()I" } : Jvm.MethodName)) ∈ lw_all := lw_g (lw_at lw_m5 83 rfl) rfl
theorem q1241 : (Jvm.Cond.privateMethod ({ cls := "CoreSyntaxModel", name := "round", desc := "()I" } : Jvm.MethodName)) ∈ lw_tbl := lw_at lw_m5 84 rfl
theorem q1242 : (Jvm.Cond.instanceMethod ({ cls := "CoreSyntaxModel", name := "round", desc := "()I" } : Jvm.MethodName)) ∈ lw_all := lw_g (lw_at lw_m5 85 rfl) rfl
theorem q1243 : (Jvm.Cond.code ({ cls := "CoreSyntaxModel", name := "round", desc := "()I" } : Jvm.MethodName) prog_5_method_50_code (3 : Nat) (Option.some Jvm.ClassFile.FieldType.int)) ∈ lw_all := lw_g (lw_at lw_m5 86 rfl) rfl
theorem q1244 : (Jvm.Cond.methodLink "CoreSyntaxModel" (193 : Nat) ({ cls := "CoreSyntaxModel", name := "unit", desc := "(II)I" } : Jvm.MethodName)) ∈ lw_all := lw_g (lw_at lw_m5 87 rfl) rfl
theorem q1245 : (Jvm.Cond.privateMethod ({ cls := "CoreSyntaxModel", name := "unit", desc := "(II)I" } : Jvm.MethodName)) ∈ lw_tbl := lw_at lw_m5 88 rfl
theorem q1246 : (Jvm.Cond.instanceMethod ({ cls := "CoreSyntaxModel", name := "unit", desc := "(II)I" } : Jvm.MethodName)) ∈ lw_all := lw_g (lw_at lw_m5 89 rfl) rfl
theorem q1247 : (Jvm.Cond.code ({ cls := "CoreSyntaxModel", name := "unit", desc := "(II)I" } : Jvm.MethodName) prog_5_method_17_code (3 : Nat) (Option.some Jvm.ClassFile.FieldType.int)) ∈ lw_all := lw_g (lw_at lw_m5 90 rfl) rfl
theorem q1248 : (Jvm.Cond.methodLink "CoreSyntaxModel" (250 : Nat) ({ cls := "CoreSyntaxModel", name := "sequence", desc := "(II)I" } : Jvm.MethodName)) ∈ lw_all := lw_g (lw_at lw_m5 91 rfl) rfl
theorem q1249 : (Jvm.Cond.privateMethod ({ cls := "CoreSyntaxModel", name := "sequence", desc := "(II)I" } : Jvm.MethodName)) ∈ lw_tbl := lw_at lw_m5 92 rfl
theorem q1250 : (Jvm.Cond.instanceMethod ({ cls := "CoreSyntaxModel", name := "sequence", desc := "(II)I" } : Jvm.MethodName)) ∈ lw_all := lw_g (lw_at lw_m5 93 rfl) rfl
theorem q1251 : (Jvm.Cond.code ({ cls := "CoreSyntaxModel", name := "sequence", desc := "(II)I" } : Jvm.MethodName) prog_5_method_25_code (4 : Nat) (Option.some Jvm.ClassFile.FieldType.int)) ∈ lw_all := lw_g (lw_at lw_m5 94 rfl) rfl
theorem q1252 : (Jvm.Cond.methodLink "CoreSyntaxModel" (122 : Nat) ({ cls := "CoreSyntaxModel", name := "oneCase", desc := "(IIII)I" } : Jvm.MethodName)) ∈ lw_all := lw_g (lw_at lw_m5 95 rfl) rfl
theorem q1253 : (Jvm.Cond.privateMethod ({ cls := "CoreSyntaxModel", name := "oneCase", desc := "(IIII)I" } : Jvm.MethodName)) ∈ lw_tbl := lw_at lw_m5 96 rfl
theorem q1254 : (Jvm.Cond.instanceMethod ({ cls := "CoreSyntaxModel", name := "oneCase", desc := "(IIII)I" } : Jvm.MethodName)) ∈ lw_all := lw_g (lw_at lw_m5 97 rfl) rfl
theorem q1255 : (Jvm.Cond.code ({ cls := "CoreSyntaxModel", name := "oneCase", desc := "(IIII)I" } : Jvm.MethodName) prog_5_method_23_code (5 : Nat) (Option.some Jvm.ClassFile.FieldType.int)) ∈ lw_all := lw_g (lw_at lw_m5 98 rfl) rfl
theorem q1256 : (Jvm.Cond.methodLink "CoreSyntaxModel" (115 : Nat) ({ cls := "CoreSyntaxModel", name := "rule", desc := "(III)I" } : Jvm.MethodName)) ∈ lw_all := lw_g (lw_at lw_m5 99 rfl) rfl
theorem q1257 : (Jvm.Cond.privateMethod ({ cls := "CoreSyntaxModel", name := "rule", desc := "(III)I" } : Jvm.MethodName)) ∈ lw_tbl := lw_at lw_m5 100 rfl
theorem q1258 : (Jvm.Cond.instanceMethod ({ cls := "CoreSyntaxModel", name := "rule", desc := "(III)I" } : Jvm.MethodName)) ∈ lw_all := lw_g (lw_at lw_m5 101 rfl) rfl
theorem q1259 : (Jvm.Cond.code ({ cls := "CoreSyntaxModel", name := "rule", desc := "(III)I" } : Jvm.MethodName) prog_5_method_22_code (4 : Nat) (Option.some Jvm.ClassFile.FieldType.int)) ∈ lw_all := lw_g (lw_at lw_m5 102 rfl) rfl
theorem q1260 : (Jvm.Cond.methodLink "CoreSyntaxModel" (231 : Nat) ({ cls := "CoreSyntaxModel", name := "items", desc := "(I)V" } : Jvm.MethodName)) ∈ lw_all := lw_g (lw_at lw_m5 103 rfl) rfl
theorem q1261 : (Jvm.Cond.privateMethod ({ cls := "CoreSyntaxModel", name := "items", desc := "(I)V" } : Jvm.MethodName)) ∈ lw_tbl := lw_at lw_m5 104 rfl
theorem q1262 : (Jvm.Cond.instanceMethod ({ cls := "CoreSyntaxModel", name := "items", desc := "(I)V" } : Jvm.MethodName)) ∈ lw_all := lw_g (lw_at lw_m5 105 rfl) rfl
theorem q1263 : (Jvm.Cond.code ({ cls := "CoreSyntaxModel", name := "items", desc := "(I)V" } : Jvm.MethodName) prog_5_method_49_code (2 : Nat) (Option.none : Option Jvm.ClassFile.FieldType)) ∈ lw_all := lw_g (lw_at lw_m5 106 rfl) rfl
theorem q1264 : (Jvm.Cond.methodLink "CoreSyntaxModel" (238 : Nat) ({ cls := "CoreSyntaxModel", name := "record", desc := "()I" } : Jvm.MethodName)) ∈ lw_all := lw_g (lw_at lw_m5 107 rfl) rfl
theorem q1265 : (Jvm.Cond.privateMethod ({ cls := "CoreSyntaxModel", name := "record", desc := "()I" } : Jvm.MethodName)) ∈ lw_tbl := lw_at lw_m5 108 rfl
theorem q1266 : (Jvm.Cond.instanceMethod ({ cls := "CoreSyntaxModel", name := "record", desc := "()I" } : Jvm.MethodName)) ∈ lw_all := lw_g (lw_at lw_m5 109 rfl) rfl
theorem q1267 : (Jvm.Cond.code ({ cls := "CoreSyntaxModel", name := "record", desc := "()I" } : Jvm.MethodName) prog_5_method_51_code (5 : Nat) (Option.some Jvm.ClassFile.FieldType.int)) ∈ lw_all := lw_g (lw_at lw_m5 110 rfl) rfl
theorem q1268 : (Jvm.Cond.methodLink "CoreSyntaxModel" (190 : Nat) ({ cls := "CoreSyntaxModel", name := "freshName", desc := "()I" } : Jvm.MethodName)) ∈ lw_all := lw_g (lw_at lw_m5 111 rfl) rfl
theorem q1269 : (Jvm.Cond.privateMethod ({ cls := "CoreSyntaxModel", name := "freshName", desc := "()I" } : Jvm.MethodName)) ∈ lw_tbl := lw_at lw_m5 112 rfl
theorem q1270 : (Jvm.Cond.instanceMethod ({ cls := "CoreSyntaxModel", name := "freshName", desc := "()I" } : Jvm.MethodName)) ∈ lw_all := lw_g (lw_at lw_m5 113 rfl) rfl
theorem q1271 : (Jvm.Cond.code ({ cls := "CoreSyntaxModel", name := "freshName", desc := "()I" } : Jvm.MethodName) prog_5_method_27_code (1 : Nat) (Option.some Jvm.ClassFile.FieldType.int)) ∈ lw_all := lw_g (lw_at lw_m5 114 rfl) rfl
theorem q1272 : (Jvm.Cond.constant "CoreSyntaxModel" (135 : Nat) (100000 : Int32)) ∈ lw_all := lw_g (lw_at lw_m5 115 rfl) rfl
theorem q1273 : (Jvm.Cond.methodLink "CoreSyntaxModel" (247 : Nat) ({ cls := "CoreSyntaxModel", name := "undo", desc := "(I)V" } : Jvm.MethodName)) ∈ lw_all := lw_g (lw_at lw_m5 116 rfl) rfl
theorem q1274 : (Jvm.Cond.privateMethod ({ cls := "CoreSyntaxModel", name := "undo", desc := "(I)V" } : Jvm.MethodName)) ∈ lw_tbl := lw_at lw_m5 117 rfl
theorem q1275 : (Jvm.Cond.instanceMethod ({ cls := "CoreSyntaxModel", name := "undo", desc := "(I)V" } : Jvm.MethodName)) ∈ lw_all := lw_g (lw_at lw_m5 118 rfl) rfl
theorem q1276 : (Jvm.Cond.code ({ cls := "CoreSyntaxModel", name := "undo", desc := "(I)V" } : Jvm.MethodName) prog_5_method_82_code (3 : Nat) (Option.none : Option Jvm.ClassFile.FieldType)) ∈ lw_all := lw_g (lw_at lw_m5 119 rfl) rfl
theorem q1277 : (Jvm.Cond.methodLink "CoreSyntaxModel" (205 : Nat) ({ cls := "CoreSyntaxModel", name := "isAtomic", desc := "()Z" } : Jvm.MethodName)) ∈ lw_all := lw_g (lw_at lw_m5 120 rfl) rfl
theorem q1278 : (Jvm.Cond.privateMethod ({ cls := "CoreSyntaxModel", name := "isAtomic", desc := "()Z" } : Jvm.MethodName)) ∈ lw_tbl := lw_at lw_m5 121 rfl
theorem q1279 : (Jvm.Cond.instanceMethod ({ cls := "CoreSyntaxModel", name := "isAtomic", desc := "()Z" } : Jvm.MethodName)) ∈ lw_all := lw_g (lw_at lw_m5 122 rfl) rfl
theorem q1280 : (Jvm.Cond.code ({ cls := "CoreSyntaxModel", name := "isAtomic", desc := "()Z" } : Jvm.MethodName) prog_5_method_47_code (1 : Nat) (Option.some Jvm.ClassFile.FieldType.boolean)) ∈ lw_all := lw_g (lw_at lw_m5 123 rfl) rfl
theorem q1281 : (Jvm.Cond.methodLink "CoreSyntaxModel" (208 : Nat) ({ cls := "CoreSyntaxModel", name := "checkOperator", desc := "(II)V" } : Jvm.MethodName)) ∈ lw_all := lw_g (lw_at lw_m5 124 rfl) rfl
theorem q1282 : (Jvm.Cond.privateMethod ({ cls := "CoreSyntaxModel", name := "checkOperator", desc := "(II)V" } : Jvm.MethodName)) ∈ lw_tbl := lw_at lw_m5 125 rfl
theorem q1283 : (Jvm.Cond.instanceMethod ({ cls := "CoreSyntaxModel", name := "checkOperator", desc := "(II)V" } : Jvm.MethodName)) ∈ lw_all := lw_g (lw_at lw_m5 126 rfl) rfl
theorem q1284 : (Jvm.Cond.code ({ cls := "CoreSyntaxModel", name := "checkOperator", desc := "(II)V" } : Jvm.MethodName) prog_5_method_43_code (4 : Nat) (Option.none : Option Jvm.ClassFile.FieldType)) ∈ lw_all := lw_g (lw_at lw_m5 127 rfl) rfl
theorem q1285 : (Jvm.Cond.methodLink "CoreSyntaxModel" (211 : Nat) ({ cls := "CoreSyntaxModel", name := "bindsFirst", desc := "(II)Z" } : Jvm.MethodName)) ∈ lw_all := lw_g (lw_at lw_m5 128 rfl) rfl
theorem q1286 : (Jvm.Cond.privateMethod ({ cls := "CoreSyntaxModel", name := "bindsFirst", desc := "(II)Z" } : Jvm.MethodName)) ∈ lw_tbl := lw_at lw_m5 129 rfl
theorem q1287 : (Jvm.Cond.instanceMethod ({ cls := "CoreSyntaxModel", name := "bindsFirst", desc := "(II)Z" } : Jvm.MethodName)) ∈ lw_all := lw_g (lw_at lw_m5 130 rfl) rfl
theorem q1288 : (Jvm.Cond.code ({ cls := "CoreSyntaxModel", name := "bindsFirst", desc := "(II)Z" } : Jvm.MethodName) prog_5_method_45_code (4 : Nat) (Option.some Jvm.ClassFile.FieldType.boolean)) ∈ lw_all := lw_g (lw_at lw_m5 131 rfl) rfl
theorem q1289 : (Jvm.Cond.methodLink "CoreSyntaxModel" (215 : Nat) ({ cls := "CoreSyntaxModel", name := "join", desc := "(Z)V" } : Jvm.MethodName)) ∈ lw_all := lw_g (lw_at lw_m5 132 rfl) rfl
theorem q1290 : (Jvm.Cond.privateMethod ({ cls := "CoreSyntaxModel", name := "join", desc := "(Z)V" } : Jvm.MethodName)) ∈ lw_tbl := lw_at lw_m5 133 rfl
theorem q1291 : (Jvm.Cond.instanceMethod ({ cls := "CoreSyntaxModel", name := "join", desc := "(Z)V" } : Jvm.MethodName)) ∈ lw_all := lw_g (lw_at lw_m5 134 rfl) rfl
theorem q1292 : (Jvm.Cond.code ({ cls := "CoreSyntaxModel", name := "join", desc := "(Z)V" } : Jvm.MethodName) prog_5_method_44_code (8 : Nat) (Option.none : Option Jvm.ClassFile.FieldType)) ∈ lw_all := lw_g (lw_at lw_m5 135 rfl) rfl
theorem q1293 : (Jvm.Cond.methodLink "CoreSyntaxModel" (172 : Nat) ({ cls := "CoreSyntaxModel", name := "choice", desc := "(IIII)I" } : Jvm.MethodName)) ∈ lw_all := lw_g (lw_at lw_m5 136 rfl) rfl
theorem q1294 : (Jvm.Cond.privateMethod ({ cls := "CoreSyntaxModel", name := "choice", desc := "(IIII)I" } : Jvm.MethodName)) ∈ lw_tbl := lw_at lw_m5 137 rfl
theorem q1295 : (Jvm.Cond.instanceMethod ({ cls := "CoreSyntaxModel", name := "choice", desc := "(IIII)I" } : Jvm.MethodName)) ∈ lw_all := lw_g (lw_at lw_m5 138 rfl) rfl
theorem q1296 : (Jvm.Cond.code ({ cls := "CoreSyntaxModel", name := "choice", desc := "(IIII)I" } : Jvm.MethodName) prog_5_method_24_code (7 : Nat) (Option.some Jvm.ClassFile.FieldType.int)) ∈ lw_all := lw_g (lw_at lw_m5 139 rfl) rfl
theorem q1297 : (Jvm.Cond.methodLink "CoreSyntaxModel" (187 : Nat) ({ cls := "CoreSyntaxModel", name := "loop", desc := "(III)I" } : Jvm.MethodName)) ∈ lw_all := lw_g (lw_at lw_m5 140 rfl) rfl
theorem q1298 : (Jvm.Cond.privateMethod ({ cls := "CoreSyntaxModel", name := "loop", desc := "(III)I" } : Jvm.MethodName)) ∈ lw_tbl := lw_at lw_m5 141 rfl
theorem q1299 : (Jvm.Cond.instanceMethod ({ cls := "CoreSyntaxModel", name := "loop", desc := "(III)I" } : Jvm.MethodName)) ∈ lw_all := lw_g (lw_at lw_m5 142 rfl) rfl
theorem q1300 : (Jvm.Cond.code ({ cls := "CoreSyntaxModel", name := "loop", desc := "(III)I" } : Jvm.MethodName) prog_5_method_41_code (9 : Nat) (Option.some Jvm.ClassFile.FieldType.int)) ∈ lw_all := lw_g (lw_at lw_m5 143 rfl) rfl
theorem q1301 : (Jvm.Cond.methodLink "CoreSyntaxModel" (298 : Nat) ({ cls := "CoreSyntaxModel", name := "val", desc := "(I)I" } : Jvm.MethodName)) ∈ lw_all := lw_g (lw_at lw_m5 144 rfl) rfl
theorem q1302 : (Jvm.Cond.privateMethod ({ cls := "CoreSyntaxModel", name := "val", desc := "(I)I" } : Jvm.MethodName)) ∈ lw_tbl := lw_at lw_m5 145 rfl
theorem q1303 : (Jvm.Cond.instanceMethod ({ cls := "CoreSyntaxModel", name := "val", desc := "(I)I" } : Jvm.MethodName)) ∈ lw_all := lw_g (lw_at lw_m5 146 rfl) rfl
theorem q1304 : (Jvm.Cond.code ({ cls := "CoreSyntaxModel", name := "val", desc := "(I)I" } : Jvm.MethodName) prog_5_method_70_code (7 : Nat) (Option.some Jvm.ClassFile.FieldType.int)) ∈ lw_all := lw_g (lw_at lw_m5 147 rfl) rfl
theorem q1305 : (Jvm.Cond.methodLink "CoreSyntaxModel" (328 : Nat) ({ cls := "CoreSyntaxModel", name := "typeVariables", desc := "(Z)I" } : Jvm.MethodName)) ∈ lw_all := lw_g (lw_at lw_m5 148 rfl) rfl
theorem q1306 : (Jvm.Cond.privateMethod ({ cls := "CoreSyntaxModel", name := "typeVariables", desc := "(Z)I" } : Jvm.MethodName)) ∈ lw_tbl := lw_at lw_m5 149 rfl
theorem q1307 : (Jvm.Cond.instanceMethod ({ cls := "CoreSyntaxModel", name := "typeVariables", desc := "(Z)I" } : Jvm.MethodName)) ∈ lw_all := lw_g (lw_at lw_m5 150 rfl) rfl
theorem q1308 : (Jvm.Cond.code ({ cls := "CoreSyntaxModel", name := "typeVariables", desc := "(Z)I" } : Jvm.MethodName) prog_5_method_66_code (4 : Nat) (Option.some Jvm.ClassFile.FieldType.int)) ∈ lw_all := lw_g (lw_at lw_m5 151 rfl) rfl
theorem q1309 : (Jvm.Cond.methodLink "CoreSyntaxModel" (301 : Nat) ({ cls := "CoreSyntaxModel", name := "fun", desc := "(I)I" } : Jvm.MethodName)) ∈ lw_all := lw_g (lw_at lw_m5 152 rfl) rfl
theorem q1310 : (Jvm.Cond.privateMethod ({ cls := "CoreSyntaxModel", name := "fun", desc := "(I)I" } : Jvm.MethodName)) ∈ lw_tbl := lw_at lw_m5 153 rfl
theorem q1311 : (Jvm.Cond.instanceMethod ({ cls := "CoreSyntaxModel", name := "fun", desc := "(I)I" } : Jvm.MethodName)) ∈ lw_all := lw_g (lw_at lw_m5 154 rfl) rfl
theorem q1312 : (Jvm.Cond.code ({ cls := "CoreSyntaxModel", name := "fun", desc := "(I)I" } : Jvm.MethodName) prog_5_method_90_code (7 : Nat) (Option.some Jvm.ClassFile.FieldType.int)) ∈ lw_all := lw_g (lw_at lw_m5 155 rfl) rfl
theorem q1313 : (Jvm.Cond.methodLink "CoreSyntaxModel" (367 : Nat) ({ cls := "CoreSyntaxModel", name := "clause", desc := "(Z)I" } : Jvm.MethodName)) ∈ lw_all := lw_g (lw_at lw_m5 156 rfl) rfl
theorem q1314 : (Jvm.Cond.privateMethod ({ cls := "CoreSyntaxModel", name := "clause", desc := "(Z)I" } : Jvm.MethodName)) ∈ lw_tbl := lw_at lw_m5 157 rfl
theorem q1315 : (Jvm.Cond.instanceMethod ({ cls := "CoreSyntaxModel", name := "clause", desc := "(Z)I" } : Jvm.MethodName)) ∈ lw_all := lw_g (lw_at lw_m5 158 rfl) rfl
theorem q1316 : (Jvm.Cond.code ({ cls := "CoreSyntaxModel", name := "clause", desc := "(Z)I" } : Jvm.MethodName) prog_5_method_89_code (10 : Nat) (Option.some Jvm.ClassFile.FieldType.int)) ∈ lw_all := lw_g (lw_at lw_m5 159 rfl) rfl
theorem q1317 : (Jvm.Cond.methodLink "CoreSyntaxModel" (358 : Nat) ({ cls := "CoreSyntaxModel", name := "head", desc := "()I" } : Jvm.MethodName)) ∈ lw_all := lw_g (lw_at lw_m5 160 rfl) rfl
theorem q1318 : (Jvm.Cond.privateMethod ({ cls := "CoreSyntaxModel", name := "head", desc := "()I" } : Jvm.MethodName)) ∈ lw_tbl := lw_at lw_m5 161 rfl
theorem q1319 : (Jvm.Cond.instanceMethod ({ cls := "CoreSyntaxModel", name := "head", desc := "()I" } : Jvm.MethodName)) ∈ lw_all := lw_g (lw_at lw_m5 162 rfl) rfl
theorem q1320 : (Jvm.Cond.code ({ cls := "CoreSyntaxModel", name := "head", desc := "()I" } : Jvm.MethodName) prog_5_method_88_code (7 : Nat) (Option.some Jvm.ClassFile.FieldType.int)) ∈ lw_all := lw_g (lw_at lw_m5 163 rfl) rfl
theorem q1321 : (Jvm.Cond.methodLink "CoreSyntaxModel" (349 : Nat) ({ cls := "CoreSyntaxModel", name := "isOperatorAt", desc := "(I)Z" } : Jvm.MethodName)) ∈ lw_all := lw_g (lw_at lw_m5 164 rfl) rfl
theorem q1322 : (Jvm.Cond.privateMethod ({ cls := "CoreSyntaxModel", name := "isOperatorAt", desc := "(I)Z" } : Jvm.MethodName)) ∈ lw_tbl := lw_at lw_m5 165 rfl
theorem q1323 : (Jvm.Cond.instanceMethod ({ cls := "CoreSyntaxModel", name := "isOperatorAt", desc := "(I)Z" } : Jvm.MethodName)) ∈ lw_all := lw_g (lw_at lw_m5 166 rfl) rfl
theorem q1324 : (Jvm.Cond.code ({ cls := "CoreSyntaxModel", name := "isOperatorAt", desc := "(I)Z" } : Jvm.MethodName) prog_5_method_85_code (2 : Nat) (Option.some Jvm.ClassFile.FieldType.boolean)) ∈ lw_all := lw_g (lw_at lw_m5 167 rfl) rfl
theorem q1325 : (Jvm.Cond.methodLink "CoreSyntaxModel" (352 : Nat) ({ cls := "CoreSyntaxModel", name := "isBracketed", desc := "()Z" } : Jvm.MethodName)) ∈ lw_all := lw_g (lw_at lw_m5 168 rfl) rfl
theorem q1326 : (Jvm.Cond.privateMethod ({ cls := "CoreSyntaxModel", name := "isBracketed", desc := "()Z" } : Jvm.MethodName)) ∈ lw_tbl := lw_at lw_m5 169 rfl
theorem q1327 : (Jvm.Cond.instanceMethod ({ cls := "CoreSyntaxModel", name := "isBracketed", desc := "()Z" } : Jvm.MethodName)) ∈ lw_all := lw_g (lw_at lw_m5 170 rfl) rfl
theorem q1328 : (Jvm.Cond.codeWith ({ cls := "CoreSyntaxModel", name := "isBracketed", desc := "()Z" } : Jvm.MethodName) prog_5_method_86_code (10 : Nat) (Option.some Jvm.ClassFile.FieldType.boolean) [((45 : Nat), (111 : Nat), (114 : Nat), (44 : Nat))]) ∈ lw_all := lw_g (lw_at lw_m5 171 rfl) rfl
theorem q1329 : (Jvm.Cond.methodLink "CoreSyntaxModel" (355 : Nat) ({ cls := "CoreSyntaxModel", name := "operator", desc := "()I" } : Jvm.MethodName)) ∈ lw_all := lw_g (lw_at lw_m5 172 rfl) rfl
theorem q1330 : (Jvm.Cond.privateMethod ({ cls := "CoreSyntaxModel", name := "operator", desc := "()I" } : Jvm.MethodName)) ∈ lw_tbl := lw_at lw_m5 173 rfl
theorem q1331 : (Jvm.Cond.instanceMethod ({ cls := "CoreSyntaxModel", name := "operator", desc := "()I" } : Jvm.MethodName)) ∈ lw_all := lw_g (lw_at lw_m5 174 rfl) rfl
theorem q1332 : (Jvm.Cond.code ({ cls := "CoreSyntaxModel", name := "operator", desc := "()I" } : Jvm.MethodName) prog_5_method_87_code (1 : Nat) (Option.some Jvm.ClassFile.FieldType.int)) ∈ lw_all := lw_g (lw_at lw_m5 175 rfl) rfl
theorem q1333 : (Jvm.Cond.methodLink "CoreSyntaxModel" (370 : Nat) ({ cls := "CoreSyntaxModel", name := "nest", desc := "(II)I" } : Jvm.MethodName)) ∈ lw_all := lw_g (lw_at lw_m5 176 rfl) rfl
theorem q1334 : (Jvm.Cond.privateMethod ({ cls := "CoreSyntaxModel", name := "nest", desc := "(II)I" } : Jvm.MethodName)) ∈ lw_tbl := lw_at lw_m5 177 rfl
theorem q1335 : (Jvm.Cond.instanceMethod ({ cls := "CoreSyntaxModel", name := "nest", desc := "(II)I" } : Jvm.MethodName)) ∈ lw_all := lw_g (lw_at lw_m5 178 rfl) rfl
theorem q1336 : (Jvm.Cond.code ({ cls := "CoreSyntaxModel", name := "nest", desc := "(II)I" } : Jvm.MethodName) prog_5_method_91_code (10 : Nat) (Option.some Jvm.ClassFile.FieldType.int)) ∈ lw_all := lw_g (lw_at lw_m5 179 rfl) rfl
theorem q1337 : (Jvm.Cond.methodLink "CoreSyntaxModel" (304 : Nat) ({ cls := "CoreSyntaxModel", name := "local", desc := "(I)I" } : Jvm.MethodName)) ∈ lw_all := lw_g (lw_at lw_m5 180 rfl) rfl
theorem q1338 : (Jvm.Cond.privateMethod ({ cls := "CoreSyntaxModel", name := "local", desc := "(I)I" } : Jvm.MethodName)) ∈ lw_tbl := lw_at lw_m5 181 rfl
theorem q1339 : (Jvm.Cond.instanceMethod ({ cls := "CoreSyntaxModel", name := "local", desc := "(I)I" } : Jvm.MethodName)) ∈ lw_all := lw_g (lw_at lw_m5 182 rfl) rfl
theorem q1340 : (Jvm.Cond.code ({ cls := "CoreSyntaxModel", name := "local", desc := "(I)I" } : Jvm.MethodName) prog_5_method_80_code (6 : Nat) (Option.some Jvm.ClassFile.FieldType.int)) ∈ lw_all := lw_g (lw_at lw_m5 183 rfl) rfl
theorem q1341 : (Jvm.Cond.methodLink "CoreSyntaxModel" (343 : Nat) ({ cls := "CoreSyntaxModel", name := "settle", desc := "(II)V" } : Jvm.MethodName)) ∈ lw_all := lw_g (lw_at lw_m5 184 rfl) rfl
theorem q1342 : (Jvm.Cond.privateMethod ({ cls := "CoreSyntaxModel", name := "settle", desc := "(II)V" } : Jvm.MethodName)) ∈ lw_tbl := lw_at lw_m5 185 rfl
theorem q1343 : (Jvm.Cond.instanceMethod ({ cls := "CoreSyntaxModel", name := "settle", desc := "(II)V" } : Jvm.MethodName)) ∈ lw_all := lw_g (lw_at lw_m5 186 rfl) rfl
theorem q1344 : (Jvm.Cond.code ({ cls := "CoreSyntaxModel", name := "settle", desc := "(II)V" } : Jvm.MethodName) prog_5_method_83_code (5 : Nat) (Option.none : Option Jvm.ClassFile.FieldType)) ∈ lw_all := lw_g (lw_at lw_m5 187 rfl) rfl
theorem q1345 : (Jvm.Cond.methodLink "CoreSyntaxModel" (346 : Nat) ({ cls := "CoreSyntaxModel", name := "change", desc := "(II)V" } : Jvm.MethodName)) ∈ lw_all := lw_g (lw_at lw_m5 188 rfl) rfl
theorem q1346 : (Jvm.Cond.privateMethod ({ cls := "CoreSyntaxModel", name := "change", desc := "(II)V" } : Jvm.MethodName)) ∈ lw_tbl := lw_at lw_m5 189 rfl
theorem q1347 : (Jvm.Cond.instanceMethod ({ cls := "CoreSyntaxModel", name := "change", desc := "(II)V" } : Jvm.MethodName)) ∈ lw_all := lw_g (lw_at lw_m5 190 rfl) rfl
theorem q1348 : (Jvm.Cond.code ({ cls := "CoreSyntaxModel", name := "change", desc := "(II)V" } : Jvm.MethodName) prog_5_method_81_code (3 : Nat) (Option.none : Option Jvm.ClassFile.FieldType)) ∈ lw_all := lw_g (lw_at lw_m5 191 rfl) rfl
theorem q1349 : (Jvm.Cond.methodLink "CoreSyntaxModel" (307 : Nat) ({ cls := "CoreSyntaxModel", name := "abstype", desc := "(I)I" } : Jvm.MethodName)) ∈ lw_all := lw_g (lw_at lw_m5 192 rfl) rfl
theorem q1350 : (Jvm.Cond.privateMethod ({ cls := "CoreSyntaxModel", name := "abstype", desc := "(I)I" } : Jvm.MethodName)) ∈ lw_tbl := lw_at lw_m5 193 rfl
theorem q1351 : (Jvm.Cond.instanceMethod ({ cls := "CoreSyntaxModel", name := "abstype", desc := "(I)I" } : Jvm.MethodName)) ∈ lw_all := lw_g (lw_at lw_m5 194 rfl) rfl
theorem q1352 : (Jvm.Cond.code ({ cls := "CoreSyntaxModel", name := "abstype", desc := "(I)I" } : Jvm.MethodName) prog_5_method_77_code (8 : Nat) (Option.some Jvm.ClassFile.FieldType.int)) ∈ lw_all := lw_g (lw_at lw_m5 195 rfl) rfl
theorem q1353 : (Jvm.Cond.methodLink "CoreSyntaxModel" (331 : Nat) ({ cls := "CoreSyntaxModel", name := "shortConstructor", desc := "()I" } : Jvm.MethodName)) ∈ lw_all := lw_g (lw_at lw_m5 196 rfl) rfl
theorem q1354 : (Jvm.Cond.privateMethod ({ cls := "CoreSyntaxModel", name := "shortConstructor", desc := "()I" } : Jvm.MethodName)) ∈ lw_tbl := lw_at lw_m5 197 rfl
theorem q1355 : (Jvm.Cond.instanceMethod ({ cls := "CoreSyntaxModel", name := "shortConstructor", desc := "()I" } : Jvm.MethodName)) ∈ lw_all := lw_g (lw_at lw_m5 198 rfl) rfl
theorem q1356 : (Jvm.Cond.code ({ cls := "CoreSyntaxModel", name := "shortConstructor", desc := "()I" } : Jvm.MethodName) prog_5_method_71_code (1 : Nat) (Option.some Jvm.ClassFile.FieldType.int)) ∈ lw_all := lw_g (lw_at lw_m5 199 rfl) rfl
theorem q1357 : (Jvm.Cond.methodLink "CoreSyntaxModel" (340 : Nat) ({ cls := "CoreSyntaxModel", name := "datatypes", desc := "(III)I" } : Jvm.MethodName)) ∈ lw_all := lw_g (lw_at lw_m5 200 rfl) rfl
theorem q1358 : (Jvm.Cond.privateMethod ({ cls := "CoreSyntaxModel", name := "datatypes", desc := "(III)I" } : Jvm.MethodName)) ∈ lw_tbl := lw_at lw_m5 201 rfl
theorem q1359 : (Jvm.Cond.instanceMethod ({ cls := "CoreSyntaxModel", name := "datatypes", desc := "(III)I" } : Jvm.MethodName)) ∈ lw_all := lw_g (lw_at lw_m5 202 rfl) rfl
theorem q1360 : (Jvm.Cond.code ({ cls := "CoreSyntaxModel", name := "datatypes", desc := "(III)I" } : Jvm.MethodName) prog_5_method_75_code (8 : Nat) (Option.some Jvm.ClassFile.FieldType.int)) ∈ lw_all := lw_g (lw_at lw_m5 203 rfl) rfl
theorem q1361 : (Jvm.Cond.methodLink "CoreSyntaxModel" (337 : Nat) ({ cls := "CoreSyntaxModel", name := "constructors", desc := "()I" } : Jvm.MethodName)) ∈ lw_all := lw_g (lw_at lw_m5 204 rfl) rfl
theorem q1362 : (Jvm.Cond.privateMethod ({ cls := "CoreSyntaxModel", name := "constructors", desc := "()I" } : Jvm.MethodName)) ∈ lw_tbl := lw_at lw_m5 205 rfl
theorem q1363 : (Jvm.Cond.instanceMethod ({ cls := "CoreSyntaxModel", name := "constructors", desc := "()I" } : Jvm.MethodName)) ∈ lw_all := lw_g (lw_at lw_m5 206 rfl) rfl
theorem q1364 : (Jvm.Cond.code ({ cls := "CoreSyntaxModel", name := "constructors", desc := "()I" } : Jvm.MethodName) prog_5_method_74_code (4 : Nat) (Option.some Jvm.ClassFile.FieldType.int)) ∈ lw_all := lw_g (lw_at lw_m5 207 rfl) rfl
theorem q1365 : (Jvm.Cond.methodLink "CoreSyntaxModel" (334 : Nat) ({ cls := "CoreSyntaxModel", name := "bound", desc := "()I" } : Jvm.MethodName)) ∈ lw_all := lw_g (lw_at lw_m5 208 rfl) rfl
theorem q1366 : (Jvm.Cond.privateMethod ({ cls := "CoreSyntaxModel", name := "bound", desc := "()I" } : Jvm.MethodName)) ∈ lw_tbl := lw_at lw_m5 209 rfl
theorem q1367 : (Jvm.Cond.instanceMethod ({ cls := "CoreSyntaxModel", name := "bound", desc := "()I" } : Jvm.MethodName)) ∈ lw_all := lw_g (lw_at lw_m5 210 rfl) rfl
theorem q1368 : (Jvm.Cond.code ({ cls := "CoreSyntaxModel", name := "bound", desc := "()I" } : Jvm.MethodName) prog_5_method_73_code (2 : Nat) (Option.some Jvm.ClassFile.FieldType.int)) ∈ lw_all := lw_g (lw_at lw_m5 211 rfl) rfl
theorem q1369 : (Jvm.Cond.methodLink "CoreSyntaxModel" (313 : Nat) ({ cls := "CoreSyntaxModel", name := "typeBindings", desc := "()I" } : Jvm.MethodName)) ∈ lw_all := lw_g (lw_at lw_m5 212 rfl) rfl
theorem q1370 : (Jvm.Cond.privateMethod ({ cls := "CoreSyntaxModel", name := "typeBindings", desc := "()I" } : Jvm.MethodName)) ∈ lw_tbl := lw_at lw_m5 213 rfl
theorem q1371 : (Jvm.Cond.instanceMethod ({ cls := "CoreSyntaxModel", name := "typeBindings", desc := "()I" } : Jvm.MethodName)) ∈ lw_all := lw_g (lw_at lw_m5 214 rfl) rfl
theorem q1372 : (Jvm.Cond.code ({ cls := "CoreSyntaxModel", name := "typeBindings", desc := "()I" } : Jvm.MethodName) prog_5_method_72_code (5 : Nat) (Option.some Jvm.ClassFile.FieldType.int)) ∈ lw_all := lw_g (lw_at lw_m5 215 rfl) rfl
theorem q1373 : (Jvm.Cond.methodLink "CoreSyntaxModel" (310 : Nat) ({ cls := "CoreSyntaxModel", name := "declaration", desc := "(II)I" } : Jvm.MethodName)) ∈ lw_all := lw_g (lw_at lw_m5 216 rfl) rfl
theorem q1374 : (Jvm.Cond.privateMethod ({ cls := "CoreSyntaxModel", name := "declaration", desc := "(II)I" } : Jvm.MethodName)) ∈ lw_tbl := lw_at lw_m5 217 rfl
theorem q1375 : (Jvm.Cond.instanceMethod ({ cls := "CoreSyntaxModel", name := "declaration", desc := "(II)I" } : Jvm.MethodName)) ∈ lw_all := lw_g (lw_at lw_m5 218 rfl) rfl
theorem q1376 : (Jvm.Cond.code ({ cls := "CoreSyntaxModel", name := "declaration", desc := "(II)I" } : Jvm.MethodName) prog_5_method_69_code (3 : Nat) (Option.some Jvm.ClassFile.FieldType.int)) ∈ lw_all := lw_g (lw_at lw_m5 219 rfl) rfl
theorem q1377 : (Jvm.Cond.methodLink "CoreSyntaxModel" (316 : Nat) ({ cls := "CoreSyntaxModel", name := "datatype", desc := "(I)I" } : Jvm.MethodName)) ∈ lw_all := lw_g (lw_at lw_m5 220 rfl) rfl
theorem q1378 : (Jvm.Cond.privateMethod ({ cls := "CoreSyntaxModel", name := "datatype", desc := "(I)I" } : Jvm.MethodName)) ∈ lw_tbl := lw_at lw_m5 221 rfl
theorem q1379 : (Jvm.Cond.instanceMethod ({ cls := "CoreSyntaxModel", name := "datatype", desc := "(I)I" } : Jvm.MethodName)) ∈ lw_all := lw_g (lw_at lw_m5 222 rfl) rfl
theorem q1380 : (Jvm.Cond.code ({ cls := "CoreSyntaxModel", name := "datatype", desc := "(I)I" } : Jvm.MethodName) prog_5_method_76_code (7 : Nat) (Option.some Jvm.ClassFile.FieldType.int)) ∈ lw_all := lw_g (lw_at lw_m5 223 rfl) rfl
theorem q1381 : (Jvm.Cond.methodLink "CoreSyntaxModel" (319 : Nat) ({ cls := "CoreSyntaxModel", name := "exceptions", desc := "()I" } : Jvm.MethodName)) ∈ lw_all := lw_g (lw_at lw_m5 224 rfl) rfl
theorem q1382 : (Jvm.Cond.privateMethod ({ cls := "CoreSyntaxModel", name := "exceptions", desc := "()I" } : Jvm.MethodName)) ∈ lw_tbl := lw_at lw_m5 225 rfl
theorem q1383 : (Jvm.Cond.instanceMethod ({ cls := "CoreSyntaxModel", name := "exceptions", desc := "()I" } : Jvm.MethodName)) ∈ lw_all := lw_g (lw_at lw_m5 226 rfl) rfl
theorem q1384 : (Jvm.Cond.code ({ cls := "CoreSyntaxModel", name := "exceptions", desc := "()I" } : Jvm.MethodName) prog_5_method_78_code (5 : Nat) (Option.some Jvm.ClassFile.FieldType.int)) ∈ lw_all := lw_g (lw_at lw_m5 227 rfl) rfl
theorem q1385 : (Jvm.Cond.methodLink "CoreSyntaxModel" (322 : Nat) ({ cls := "CoreSyntaxModel", name := "opened", desc := "()I" } : Jvm.MethodName)) ∈ lw_all := lw_g (lw_at lw_m5 228 rfl) rfl
theorem q1386 : (Jvm.Cond.privateMethod ({ cls := "CoreSyntaxModel", name := "opened", desc := "()I" } : Jvm.MethodName)) ∈ lw_tbl := lw_at lw_m5 229 rfl
theorem q1387 : (Jvm.Cond.instanceMethod ({ cls := "CoreSyntaxModel", name := "opened", desc := "()I" } : Jvm.MethodName)) ∈ lw_all := lw_g (lw_at lw_m5 230 rfl) rfl
theorem q1388 : (Jvm.Cond.code ({ cls := "CoreSyntaxModel", name := "opened", desc := "()I" } : Jvm.MethodName) prog_5_method_79_code (3 : Nat) (Option.some Jvm.ClassFile.FieldType.int)) ∈ lw_all := lw_g (lw_at lw_m5 231 rfl) rfl
theorem q1389 : (Jvm.Cond.methodLink "CoreSyntaxModel" (325 : Nat) ({ cls := "CoreSyntaxModel", name := "changeFixities", desc := "(I)V" } : Jvm.MethodName)) ∈ lw_all := lw_g (lw_at lw_m5 232 rfl) rfl
theorem q1390 : (Jvm.Cond.privateMethod ({ cls := "CoreSyntaxModel", name := "changeFixities", desc := "(I)V" } : Jvm.MethodName)) ∈ lw_tbl := lw_at lw_m5 233 rfl
theorem q1391 : (Jvm.Cond.instanceMethod ({ cls := "CoreSyntaxModel", name := "changeFixities", desc := "(I)V" } : Jvm.MethodName)) ∈ lw_all := lw_g (lw_at lw_m5 234 rfl) rfl
theorem q1392 : (Jvm.Cond.code ({ cls := "CoreSyntaxModel", name := "changeFixities", desc := "(I)V" } : Jvm.MethodName) prog_5_method_84_code (3 : Nat) (Option.none : Option Jvm.ClassFile.FieldType)) ∈ lw_all := lw_g (lw_at lw_m5 235 rfl) rfl
theorem q1393 : (Jvm.Cond.methodLink "CoreSyntaxModel" (373 : Nat) ({ cls := "CoreSyntaxModel", name := "number", desc := "(I)V" } : Jvm.MethodName)) ∈ lw_all := lw_g (lw_at lw_m5 236 rfl) rfl
theorem q1394 : (Jvm.Cond.privateMethod ({ cls := "CoreSyntaxModel", name := "number", desc := "(I)V" } : Jvm.MethodName)) ∈ lw_tbl := lw_at lw_m5 237 rfl
theorem q1395 : (Jvm.Cond.instanceMethod ({ cls := "CoreSyntaxModel", name := "number", desc := "(I)V" } : Jvm.MethodName)) ∈ lw_all := lw_g (lw_at lw_m5 238 rfl) rfl
theorem q1396 : (Jvm.Cond.code ({ cls := "CoreSyntaxModel", name := "number", desc := "(I)V" } : Jvm.MethodName) prog_5_method_95_code (8 : Nat) (Option.none : Option Jvm.ClassFile.FieldType)) ∈ lw_all := lw_g (lw_at lw_m5 239 rfl) rfl
theorem q1397 : (Jvm.Cond.methodLink "CoreSyntaxModel" (383 : Nat) ({ cls := "CoreSyntaxModel", name := "isPart", desc := "(II)Z" } : Jvm.MethodName)) ∈ lw_all := lw_g (lw_at lw_m6 0 rfl) rfl
theorem q1398 : (Jvm.Cond.privateMethod ({ cls := "CoreSyntaxModel", name := "isPart", desc := "(II)Z" } : Jvm.MethodName)) ∈ lw_tbl := lw_at lw_m6 1 rfl
theorem q1399 : (Jvm.Cond.instanceMethod ({ cls := "CoreSyntaxModel", name := "isPart", desc := "(II)Z" } : Jvm.MethodName)) ∈ lw_all := lw_g (lw_at lw_m6 2 rfl) rfl
theorem q1400 : (Jvm.Cond.code ({ cls := "CoreSyntaxModel", name := "isPart", desc := "(II)Z" } : Jvm.MethodName) prog_5_method_94_code (3 : Nat) (Option.some Jvm.ClassFile.FieldType.boolean)) ∈ lw_all := lw_g (lw_at lw_m6 3 rfl) rfl
theorem q1401 : (Jvm.Cond.methodLink "CoreSyntaxModel" (380 : Nat) ({ cls := "CoreSyntaxModel", name := "parts", desc := "(I)I" } : Jvm.MethodName)) ∈ lw_all := lw_g (lw_at lw_m6 4 rfl) rfl
theorem q1402 : (Jvm.Cond.static ({ cls := "CoreSyntaxModel", name := "parts", desc := "(I)I" } : Jvm.MethodName)) ∈ lw_all := lw_g (lw_at lw_m6 5 rfl) rfl
theorem q1403 : (Jvm.Cond.code ({ cls := "CoreSyntaxModel", name := "parts", desc := "(I)I" } : Jvm.MethodName) prog_5_method_93_code (1 : Nat) (Option.some Jvm.ClassFile.FieldType.int)) ∈ lw_all := lw_g (lw_at lw_m6 6 rfl) rfl
theorem q1404 : (Jvm.Cond.methodLink "CoreSyntaxModel" (386 : Nat) ({ cls := "CoreSyntaxModel", name := "finish", desc := "()V" } : Jvm.MethodName)) ∈ lw_all := lw_g (lw_at lw_m6 7 rfl) rfl
theorem q1405 : (Jvm.Cond.privateMethod ({ cls := "CoreSyntaxModel", name := "finish", desc := "()V" } : Jvm.MethodName)) ∈ lw_tbl := lw_at lw_m6 8 rfl
theorem q1406 : (Jvm.Cond.instanceMethod ({ cls := "CoreSyntaxModel", name := "finish", desc := "()V" } : Jvm.MethodName)) ∈ lw_all := lw_g (lw_at lw_m6 9 rfl) rfl
theorem q1407 : (Jvm.Cond.code ({ cls := "CoreSyntaxModel", name := "finish", desc := "()V" } : Jvm.MethodName) prog_5_method_96_code (6 : Nat) (Option.none : Option Jvm.ClassFile.FieldType)) ∈ lw_all := lw_g (lw_at lw_m6 10 rfl) rfl
theorem q1409 : (Jvm.Cond.instanceMethod ({ cls := "CoreSyntaxModel", name := "fault", desc := "(I)I" } : Jvm.MethodName)) ∈ lw_all := lw_g (lw_at lw_m6 12 rfl) rfl
theorem q1410 : (Jvm.Cond.selects "CoreSyntaxModel" ({ cls := "CoreSyntaxModel", name := "fault", desc := "(I)I" } : Jvm.MethodName) ({ cls := "CoreSyntaxModel", name := "fault", desc := "(I)I" } : Jvm.MethodName)) ∈ lw_all := lw_g (lw_at lw_m6 13 rfl) rfl
theorem q1411 : (Jvm.Cond.code ({ cls := "CoreSyntaxModel", name := "fault", desc := "(I)I" } : Jvm.MethodName) prog_5_method_97_code (2 : Nat) (Option.some Jvm.ClassFile.FieldType.int)) ∈ lw_all := lw_g (lw_at lw_m6 14 rfl) rfl
theorem q1413 : (Jvm.Cond.instanceMethod ({ cls := "CoreSyntaxModel", name := "retreat", desc := "()Z" } : Jvm.MethodName)) ∈ lw_all := lw_g (lw_at lw_m6 16 rfl) rfl
theorem q1414 : (Jvm.Cond.selects "CoreSyntaxModel" ({ cls := "CoreSyntaxModel", name := "retreat", desc := "()Z" } : Jvm.MethodName) ({ cls := "CoreSyntaxModel", name := "retreat", desc := "()Z" } : Jvm.MethodName)) ∈ lw_all := lw_g (lw_at lw_m6 17 rfl) rfl
theorem q1415 : (Jvm.Cond.code ({ cls := "CoreSyntaxModel", name := "retreat", desc := "()Z" } : Jvm.MethodName) prog_5_method_98_code (2 : Nat) (Option.some Jvm.ClassFile.FieldType.boolean)) ∈ lw_all := lw_g (lw_at lw_m6 18 rfl) rfl
theorem q1417 : (Jvm.Cond.instanceMethod ({ cls := "CoreSyntaxModel", name := "fixity", desc := "(I)I" } : Jvm.MethodName)) ∈ lw_all := lw_g (lw_at lw_m6 20 rfl) rfl
theorem q1418 : (Jvm.Cond.selects "CoreSyntaxModel" ({ cls := "CoreSyntaxModel", name := "fixity", desc := "(I)I" } : Jvm.MethodName) ({ cls := "CoreSyntaxModel", name := "fixity", desc := "(I)I" } : Jvm.MethodName)) ∈ lw_all := lw_g (lw_at lw_m6 21 rfl) rfl
theorem q1419 : (Jvm.Cond.code ({ cls := "CoreSyntaxModel", name := "fixity", desc := "(I)I" } : Jvm.MethodName) prog_5_method_99_code (2 : Nat) (Option.some Jvm.ClassFile.FieldType.int)) ∈ lw_all := lw_g (lw_at lw_m6 22 rfl) rfl
theorem q1421 : (Jvm.Cond.instanceMethod ({ cls := "CoreSyntaxModel", name := "nodes", desc := "()I" } : Jvm.MethodName)) ∈ lw_all := lw_g (lw_at lw_m6 24 rfl) rfl
theorem q1422 : (Jvm.Cond.selects "CoreSyntaxModel" ({ cls := "CoreSyntaxModel", name := "nodes", desc := "()I" } : Jvm.MethodName) ({ cls := "CoreSyntaxModel", name := "nodes", desc := "()I" } : Jvm.MethodName)) ∈ lw_all := lw_g (lw_at lw_m6 25 rfl) rfl
theorem q1423 : (Jvm.Cond.code ({ cls := "CoreSyntaxModel", name := "nodes", desc := "()I" } : Jvm.MethodName) prog_5_method_100_code (1 : Nat) (Option.some Jvm.ClassFile.FieldType.int)) ∈ lw_all := lw_g (lw_at lw_m6 26 rfl) rfl
theorem q1425 : (Jvm.Cond.instanceMethod ({ cls := "CoreSyntaxModel", name := "node", desc := "(II)I" } : Jvm.MethodName)) ∈ lw_all := lw_g (lw_at lw_m6 28 rfl) rfl
theorem q1426 : (Jvm.Cond.selects "CoreSyntaxModel" ({ cls := "CoreSyntaxModel", name := "node", desc := "(II)I" } : Jvm.MethodName) ({ cls := "CoreSyntaxModel", name := "node", desc := "(II)I" } : Jvm.MethodName)) ∈ lw_all := lw_g (lw_at lw_m6 29 rfl) rfl
theorem q1427 : (Jvm.Cond.code ({ cls := "CoreSyntaxModel", name := "node", desc := "(II)I" } : Jvm.MethodName) prog_5_method_102_code (3 : Nat) (Option.some Jvm.ClassFile.FieldType.int)) ∈ lw_all := lw_g (lw_at lw_m6 30 rfl) rfl
theorem q1428 : (Jvm.Cond.methodLink "CoreSyntaxModel" (389 : Nat) ({ cls := "CoreSyntaxModel", name := "isNode", desc := "(I)Z" } : Jvm.MethodName)) ∈ lw_all := lw_g (lw_at lw_m6 31 rfl) rfl
theorem q1429 : (Jvm.Cond.privateMethod ({ cls := "CoreSyntaxModel", name := "isNode", desc := "(I)Z" } : Jvm.MethodName)) ∈ lw_tbl := lw_at lw_m6 32 rfl
theorem q1430 : (Jvm.Cond.instanceMethod ({ cls := "CoreSyntaxModel", name := "isNode", desc := "(I)Z" } : Jvm.MethodName)) ∈ lw_all := lw_g (lw_at lw_m6 33 rfl) rfl
theorem q1431 : (Jvm.Cond.code ({ cls := "CoreSyntaxModel", name := "isNode", desc := "(I)Z" } : Jvm.MethodName) prog_5_method_101_code (2 : Nat) (Option.some Jvm.ClassFile.FieldType.boolean)) ∈ lw_all := lw_g (lw_at lw_m6 34 rfl) rfl
theorem q1433 : (Jvm.Cond.instanceMethod ({ cls := "CoreSyntaxModel", name := "length", desc := "(I)I" } : Jvm.MethodName)) ∈ lw_all := lw_g (lw_at lw_m6 36 rfl) rfl
theorem q1434 : (Jvm.Cond.selects "CoreSyntaxModel" ({ cls := "CoreSyntaxModel", name := "length", desc := "(I)I" } : Jvm.MethodName) ({ cls := "CoreSyntaxModel", name := "length", desc := "(I)I" } : Jvm.MethodName)) ∈ lw_all := lw_g (lw_at lw_m6 37 rfl) rfl
theorem q1435 : (Jvm.Cond.code ({ cls := "CoreSyntaxModel", name := "length", desc := "(I)I" } : Jvm.MethodName) prog_5_method_104_code (4 : Nat) (Option.some Jvm.ClassFile.FieldType.int)) ∈ lw_all := lw_g (lw_at lw_m6 38 rfl) rfl
theorem q1436 : (Jvm.Cond.methodLink "CoreSyntaxModel" (392 : Nat) ({ cls := "CoreSyntaxModel", name := "isList", desc := "(I)Z" } : Jvm.MethodName)) ∈ lw_all := lw_g (lw_at lw_m6 39 rfl) rfl
theorem q1437 : (Jvm.Cond.privateMethod ({ cls := "CoreSyntaxModel", name := "isList", desc := "(I)Z" } : Jvm.MethodName)) ∈ lw_tbl := lw_at lw_m6 40 rfl
theorem q1438 : (Jvm.Cond.instanceMethod ({ cls := "CoreSyntaxModel", name := "isList", desc := "(I)Z" } : Jvm.MethodName)) ∈ lw_all := lw_g (lw_at lw_m6 41 rfl) rfl
theorem q1439 : (Jvm.Cond.code ({ cls := "CoreSyntaxModel", name := "isList", desc := "(I)Z" } : Jvm.MethodName) prog_5_method_103_code (2 : Nat) (Option.some Jvm.ClassFile.FieldType.boolean)) ∈ lw_all := lw_g (lw_at lw_m6 42 rfl) rfl
theorem q1441 : (Jvm.Cond.instanceMethod ({ cls := "CoreSyntaxModel", name := "item", desc := "(II)I" } : Jvm.MethodName)) ∈ lw_all := lw_g (lw_at lw_m6 44 rfl) rfl
theorem q1442 : (Jvm.Cond.selects "CoreSyntaxModel" ({ cls := "CoreSyntaxModel", name := "item", desc := "(II)I" } : Jvm.MethodName) ({ cls := "CoreSyntaxModel", name := "item", desc := "(II)I" } : Jvm.MethodName)) ∈ lw_all := lw_g (lw_at lw_m6 45 rfl) rfl
theorem q1443 : (Jvm.Cond.code ({ cls := "CoreSyntaxModel", name := "item", desc := "(II)I" } : Jvm.MethodName) prog_5_method_105_code (5 : Nat) (Option.some Jvm.ClassFile.FieldType.int)) ∈ lw_all := lw_g (lw_at lw_m6 46 rfl) rfl
theorem q1445 : (Jvm.Cond.instanceMethod ({ cls := "CoreSyntaxModel", name := "behind", desc := "(I)I" } : Jvm.MethodName)) ∈ lw_all := lw_g (lw_at lw_m6 48 rfl) rfl
theorem q1446 : (Jvm.Cond.selects "CoreSyntaxModel" ({ cls := "CoreSyntaxModel", name := "behind", desc := "(I)I" } : Jvm.MethodName) ({ cls := "CoreSyntaxModel", name := "behind", desc := "(I)I" } : Jvm.MethodName)) ∈ lw_all := lw_g (lw_at lw_m6 49 rfl) rfl
theorem q1447 : (Jvm.Cond.code ({ cls := "CoreSyntaxModel", name := "behind", desc := "(I)I" } : Jvm.MethodName) prog_5_method_106_code (2 : Nat) (Option.some Jvm.ClassFile.FieldType.int)) ∈ lw_all := lw_g (lw_at lw_m6 50 rfl) rfl
theorem q1449 : (Jvm.Cond.instanceMethod ({ cls := "CoreSyntaxModel", name := "same", desc := "(II)Z" } : Jvm.MethodName)) ∈ lw_all := lw_g (lw_at lw_m6 52 rfl) rfl
theorem q1450 : (Jvm.Cond.selects "CoreSyntaxModel" ({ cls := "CoreSyntaxModel", name := "same", desc := "(II)Z" } : Jvm.MethodName) ({ cls := "CoreSyntaxModel", name := "same", desc := "(II)Z" } : Jvm.MethodName)) ∈ lw_all := lw_g (lw_at lw_m6 53 rfl) rfl
theorem q1451 : (Jvm.Cond.code ({ cls := "CoreSyntaxModel", name := "same", desc := "(II)Z" } : Jvm.MethodName) prog_5_method_107_code (10 : Nat) (Option.some Jvm.ClassFile.FieldType.boolean)) ∈ lw_all := lw_g (lw_at lw_m6 54 rfl) rfl
theorem q1453 : (Jvm.Cond.instanceMethod ({ cls := "CoreSyntaxModel", name := "fresh", desc := "()I" } : Jvm.MethodName)) ∈ lw_all := lw_g (lw_at lw_m6 56 rfl) rfl
theorem q1454 : (Jvm.Cond.selects "CoreSyntaxModel" ({ cls := "CoreSyntaxModel", name := "fresh", desc := "()I" } : Jvm.MethodName) ({ cls := "CoreSyntaxModel", name := "fresh", desc := "()I" } : Jvm.MethodName)) ∈ lw_all := lw_g (lw_at lw_m6 57 rfl) rfl
theorem q1455 : (Jvm.Cond.code ({ cls := "CoreSyntaxModel", name := "fresh", desc := "()I" } : Jvm.MethodName) prog_5_method_108_code (1 : Nat) (Option.some Jvm.ClassFile.FieldType.int)) ∈ lw_all := lw_g (lw_at lw_m6 58 rfl) rfl
theorem in_X3 : ∀ w ∈ wsX30, w ∈ lw_all := lw_in wsX30 [972, 974, 976, 978, 980, 982, 984, 986, 988, 990, 992, 994, 996, 998, 1000, 1002, 1004, 1006, 1008, 1010, 1012, 1014, 1016] (by decide +kernel) (by decide +kernel)

/-! CoreSyntaxModel$Row -/
def RX4 : String := "CoreSyntaxModel$Row"
def TX4 : u_T := fun k => match k with
  | 0 => ("CoreSyntaxModel$Row", "all", "[I", false)
  | _ => ("CoreSyntaxModel$Row", "size", "I", false)
def tyX4 : Nat → FieldType := fun k => match k with
  | 0 => .array .int
  | _ => .int
abbrev wsX40 : List Cond := u_ws RX4 TX4 2
theorem nmX4 : ∀ a, a < 2 → ∀ b, b < 2 → a ≠ b → (TX4 a).2.1 ≠ (TX4 b).2.1 := by decide +kernel
theorem tyX4_ok : ∀ k, k < 2 → parseFieldDescriptor (TX4 k).2.2.1 = some (tyX4 k) := by decide +kernel
abbrev cX4_init : ByteArray := prog_6_method_1_code
def yX4_init : MethodName := ⟨RX4, "<init>", "()V"⟩
theorem dX4_init_0 : decode cX4_init 0 = .ok (.aload_n 0, 1) := by decide +kernel
theorem dX4_init_1 : decode cX4_init 1 = .ok (.invokespecial 1, 3) := by decide +kernel
theorem dX4_init_4 : decode cX4_init 4 = .ok (.aload_n 0, 1) := by decide +kernel
theorem dX4_init_5 : decode cX4_init 5 = .ok (.bipush 64, 2) := by decide +kernel
theorem dX4_init_7 : decode cX4_init 7 = .ok (.newarray .int, 2) := by decide +kernel
theorem dX4_init_9 : decode cX4_init 9 = .ok (.putfield 7, 3) := by decide +kernel
theorem dX4_init_12 : decode cX4_init 12 = .ok (.return_, 1) := by decide +kernel
abbrev cX4_add : ByteArray := prog_6_method_2_code
def yX4_add : MethodName := ⟨RX4, "add", "(I)V"⟩
theorem dX4_add_0 : decode cX4_add 0 = .ok (.aload_n 0, 1) := by decide +kernel
theorem dX4_add_1 : decode cX4_add 1 = .ok (.getfield 13, 3) := by decide +kernel
theorem dX4_add_4 : decode cX4_add 4 = .ok (.aload_n 0, 1) := by decide +kernel
theorem dX4_add_5 : decode cX4_add 5 = .ok (.getfield 7, 3) := by decide +kernel
theorem dX4_add_8 : decode cX4_add 8 = .ok (.arraylength, 1) := by decide +kernel
theorem dX4_add_9 : decode cX4_add 9 = .ok (.if_icmp .ne 31, 3) := by decide +kernel
theorem dX4_add_12 : decode cX4_add 12 = .ok (.iconst 2, 1) := by decide +kernel
theorem dX4_add_13 : decode cX4_add 13 = .ok (.aload_n 0, 1) := by decide +kernel
theorem dX4_add_14 : decode cX4_add 14 = .ok (.getfield 13, 3) := by decide +kernel
theorem dX4_add_17 : decode cX4_add 17 = .ok (.imul, 1) := by decide +kernel
theorem dX4_add_18 : decode cX4_add 18 = .ok (.newarray .int, 2) := by decide +kernel
theorem dX4_add_20 : decode cX4_add 20 = .ok (.astore_n 2, 1) := by decide +kernel
theorem dX4_add_21 : decode cX4_add 21 = .ok (.aload_n 0, 1) := by decide +kernel
theorem dX4_add_22 : decode cX4_add 22 = .ok (.getfield 7, 3) := by decide +kernel
theorem dX4_add_25 : decode cX4_add 25 = .ok (.iconst 0, 1) := by decide +kernel
theorem dX4_add_26 : decode cX4_add 26 = .ok (.aload_n 2, 1) := by decide +kernel
theorem dX4_add_27 : decode cX4_add 27 = .ok (.iconst 0, 1) := by decide +kernel
theorem dX4_add_28 : decode cX4_add 28 = .ok (.aload_n 0, 1) := by decide +kernel
theorem dX4_add_29 : decode cX4_add 29 = .ok (.getfield 13, 3) := by decide +kernel
theorem dX4_add_32 : decode cX4_add 32 = .ok (.invokestatic 17, 3) := by decide +kernel
theorem dX4_add_35 : decode cX4_add 35 = .ok (.aload_n 0, 1) := by decide +kernel
theorem dX4_add_36 : decode cX4_add 36 = .ok (.aload_n 2, 1) := by decide +kernel
theorem dX4_add_37 : decode cX4_add 37 = .ok (.putfield 7, 3) := by decide +kernel
theorem dX4_add_40 : decode cX4_add 40 = .ok (.aload_n 0, 1) := by decide +kernel
theorem dX4_add_41 : decode cX4_add 41 = .ok (.getfield 7, 3) := by decide +kernel
theorem dX4_add_44 : decode cX4_add 44 = .ok (.aload_n 0, 1) := by decide +kernel
theorem dX4_add_45 : decode cX4_add 45 = .ok (.getfield 13, 3) := by decide +kernel
theorem dX4_add_48 : decode cX4_add 48 = .ok (.iload_n 1, 1) := by decide +kernel
theorem dX4_add_49 : decode cX4_add 49 = .ok (.iastore, 1) := by decide +kernel
theorem dX4_add_50 : decode cX4_add 50 = .ok (.aload_n 0, 1) := by decide +kernel
theorem dX4_add_51 : decode cX4_add 51 = .ok (.dup, 1) := by decide +kernel
theorem dX4_add_52 : decode cX4_add 52 = .ok (.getfield 13, 3) := by decide +kernel
theorem dX4_add_55 : decode cX4_add 55 = .ok (.iconst 1, 1) := by decide +kernel
theorem dX4_add_56 : decode cX4_add 56 = .ok (.iadd, 1) := by decide +kernel
theorem dX4_add_57 : decode cX4_add 57 = .ok (.putfield 13, 3) := by decide +kernel
theorem dX4_add_60 : decode cX4_add 60 = .ok (.return_, 1) := by decide +kernel
abbrev cX4_take : ByteArray := prog_6_method_3_code
def yX4_take : MethodName := ⟨RX4, "take", "()I"⟩
theorem dX4_take_0 : decode cX4_take 0 = .ok (.aload_n 0, 1) := by decide +kernel
theorem dX4_take_1 : decode cX4_take 1 = .ok (.dup, 1) := by decide +kernel
theorem dX4_take_2 : decode cX4_take 2 = .ok (.getfield 13, 3) := by decide +kernel
theorem dX4_take_5 : decode cX4_take 5 = .ok (.iconst 1, 1) := by decide +kernel
theorem dX4_take_6 : decode cX4_take 6 = .ok (.isub, 1) := by decide +kernel
theorem dX4_take_7 : decode cX4_take 7 = .ok (.putfield 13, 3) := by decide +kernel
theorem dX4_take_10 : decode cX4_take 10 = .ok (.aload_n 0, 1) := by decide +kernel
theorem dX4_take_11 : decode cX4_take 11 = .ok (.getfield 7, 3) := by decide +kernel
theorem dX4_take_14 : decode cX4_take 14 = .ok (.aload_n 0, 1) := by decide +kernel
theorem dX4_take_15 : decode cX4_take 15 = .ok (.getfield 13, 3) := by decide +kernel
theorem dX4_take_18 : decode cX4_take 18 = .ok (.iaload, 1) := by decide +kernel
theorem dX4_take_19 : decode cX4_take 19 = .ok (.ireturn, 1) := by decide +kernel
theorem q202 : (Jvm.Cond.initialized "CoreSyntaxModel$Row") ∈ lw_all := lw_g (lw_at lw_m1 5 rfl) rfl
theorem q933 : (Jvm.Cond.instantiable "CoreSyntaxModel$Row" (2 : Nat)) ∈ lw_all := lw_g (lw_at lw_m4 16 rfl) rfl
theorem q935 : (Jvm.Cond.instanceMethod ({ cls := "CoreSyntaxModel$Row", name := "<init>", desc := "()V" } : Jvm.MethodName)) ∈ lw_all := lw_g (lw_at lw_m4 18 rfl) rfl
theorem q936 : (Jvm.Cond.code ({ cls := "CoreSyntaxModel$Row", name := "<init>", desc := "()V" } : Jvm.MethodName) prog_6_method_1_code (1 : Nat) (Option.none : Option Jvm.ClassFile.FieldType)) ∈ lw_all := lw_g (lw_at lw_m4 19 rfl) rfl
theorem q937 : (Jvm.Cond.methodLink "CoreSyntaxModel$Row" (1 : Nat) ({ cls := "java/lang/Object", name := "<init>", desc := "()V" } : Jvm.MethodName)) ∈ lw_all := lw_g (lw_at lw_m4 20 rfl) rfl
theorem q938 : (Jvm.Cond.fieldLink "CoreSyntaxModel$Row" (7 : Nat) "CoreSyntaxModel$Row" "all" "[I") ∈ lw_all := lw_g (lw_at lw_m4 21 rfl) rfl
theorem q940 : (Jvm.Cond.fieldLink "CoreSyntaxModel$Row" (13 : Nat) "CoreSyntaxModel$Row" "size" "I") ∈ lw_all := lw_g (lw_at lw_m4 23 rfl) rfl
theorem q942 : (Jvm.Cond.lays "CoreSyntaxModel$Row" "CoreSyntaxModel$Row" "all" "[I") ∈ lw_all := lw_g (lw_at lw_m4 25 rfl) rfl
theorem q943 : (Jvm.Cond.soleField "CoreSyntaxModel$Row" "all") ∈ lw_all := lw_g (lw_at lw_m4 26 rfl) rfl
theorem q944 : (Jvm.Cond.lays "CoreSyntaxModel$Row" "CoreSyntaxModel$Row" "size" "I") ∈ lw_all := lw_g (lw_at lw_m4 27 rfl) rfl
theorem q945 : (Jvm.Cond.soleField "CoreSyntaxModel$Row" "size") ∈ lw_all := lw_g (lw_at lw_m4 28 rfl) rfl
theorem q946 : (Jvm.Cond.superclass "CoreSyntaxModel$Row" "java/lang/Object") ∈ lw_all := lw_g (lw_at lw_m4 29 rfl) rfl
theorem q1084 : (Jvm.Cond.instanceMethod ({ cls := "CoreSyntaxModel$Row", name := "add", desc := "(I)V" } : Jvm.MethodName)) ∈ lw_all := lw_g (lw_at lw_m4 167 rfl) rfl
theorem q1085 : (Jvm.Cond.selects "CoreSyntaxModel$Row" ({ cls := "CoreSyntaxModel$Row", name := "add", desc := "(I)V" } : Jvm.MethodName) ({ cls := "CoreSyntaxModel$Row", name := "add", desc := "(I)V" } : Jvm.MethodName)) ∈ lw_all := lw_g (lw_at lw_m4 168 rfl) rfl
theorem q1086 : (Jvm.Cond.code ({ cls := "CoreSyntaxModel$Row", name := "add", desc := "(I)V" } : Jvm.MethodName) prog_6_method_2_code (3 : Nat) (Option.none : Option Jvm.ClassFile.FieldType)) ∈ lw_all := lw_g (lw_at lw_m4 169 rfl) rfl
theorem q1087 : (Jvm.Cond.methodLink "CoreSyntaxModel$Row" (17 : Nat) ({ cls := "java/lang/System", name := "arraycopy", desc := "(Ljava/lang/Object;ILjava/lang/Object;II)V" } : Jvm.MethodName)) ∈ lw_all := lw_g (lw_at lw_m4 170 rfl) rfl
theorem q1193 : (Jvm.Cond.instanceMethod ({ cls := "CoreSyntaxModel$Row", name := "take", desc := "()I" } : Jvm.MethodName)) ∈ lw_all := lw_g (lw_at lw_m5 36 rfl) rfl
theorem q1194 : (Jvm.Cond.selects "CoreSyntaxModel$Row" ({ cls := "CoreSyntaxModel$Row", name := "take", desc := "()I" } : Jvm.MethodName) ({ cls := "CoreSyntaxModel$Row", name := "take", desc := "()I" } : Jvm.MethodName)) ∈ lw_all := lw_g (lw_at lw_m5 37 rfl) rfl
theorem q1195 : (Jvm.Cond.code ({ cls := "CoreSyntaxModel$Row", name := "take", desc := "()I" } : Jvm.MethodName) prog_6_method_3_code (1 : Nat) (Option.some Jvm.ClassFile.FieldType.int)) ∈ lw_all := lw_g (lw_at lw_m5 38 rfl) rfl
theorem in_X4 : ∀ w ∈ wsX40, w ∈ lw_all := lw_in wsX40 [942, 944] (by decide +kernel) (by decide +kernel)

/-! the law's own entry -/
abbrev cL_law : ByteArray := code

