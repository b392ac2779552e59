/-! names of fields, methods; what entries of the pools mean (tools/dec.py) -/
set_option maxRecDepth 100000
abbrev fX0_tape : Nat := 0
abbrev fX0_fed : Nat := 1
abbrev fX0_program : Nat := 2
abbrev fX0_kinds : Nat := 3
abbrev fX0_cells : Nat := 4
abbrev fX0_machine : Nat := 5
abbrev fX0_isBegun : Nat := 6
abbrev fX1_kinds : Nat := 0
abbrev fX1_size : Nat := 1
abbrev fX1_heap : Nat := 2
abbrev fX1_other : Nat := 3
abbrev fX1_used : Nat := 4
abbrev fX1_pile : Nat := 5
abbrev fX1_top : Nat := 6
abbrev fX1_methods : Nat := 7
abbrev fX1_places : Nat := 8
abbrev fX1_bases : Nat := 9
abbrev fX1_open : Nat := 10
abbrev fX1_given : Nat := 11
abbrev fX1_givenFirst : Nat := 12
abbrev fX1_givenMany : Nat := 13
abbrev fX1_outputs : Nat := 14
abbrev fX1_printed : Nat := 15
abbrev fX1_steps : Nat := 16
abbrev fX1_made : Nat := 17
abbrev fX1_thrown : Nat := 18
abbrev fX1_ended : Nat := 19
abbrev fX1_result : Nat := 20
abbrev fX1_flying : Nat := 21
abbrev fX2_cause : Nat := 0
abbrev fX2_stackTrace : Nat := 1
abbrev fX2_suppressedExceptions : Nat := 2
abbrev fX2_detailMessage : Nat := 3
abbrev fX2_backtrace : Nat := 4
abbrev fX2_depth : Nat := 5
abbrev fX2_word : Nat := 6
abbrev fX3_tape : Nat := 0
abbrev fX3_taped : Nat := 1
abbrev fX3_source : Nat := 2
abbrev fX3_length : Nat := 3
abbrev fX3_at : Nat := 4
abbrev fX3_word : Nat := 5
abbrev fX3_wordFrom : Nat := 6
abbrev fX3_wordLong : Nat := 7
abbrev fX3_wordValue : Nat := 8
abbrev fX3_wrong : Nat := 9
abbrev fX3_deep : Nat := 10
abbrev fX3_names : Nat := 11
abbrev fX3_nameFrom : Nat := 12
abbrev fX3_nameLong : Nat := 13
abbrev fX3_known : Nat := 14
abbrev fX3_nodes : Nat := 15
abbrev fX3_is : Nat := 16
abbrev fX3_one : Nat := 17
abbrev fX3_two : Nat := 18
abbrev fX3_of : Nat := 19
abbrev fX3_typeOf : Nat := 20
abbrev fX3_listed : Nat := 21
abbrev fX3_list : Nat := 22
abbrev fX3_held : Nat := 23
abbrev fX3_hold : Nat := 24
abbrev fX3_statements : Nat := 25
abbrev fX3_statementIs : Nat := 26
abbrev fX3_place : Nat := 27
abbrev fX3_nodesFrom : Nat := 28
abbrev fX3_value : Nat := 29
abbrev fX3_target : Nat := 30
abbrev fX3_toldType : Nat := 31
abbrev fX3_toldName : Nat := 32
abbrev fX3_variable : Nat := 33
abbrev fX3_inner : Nat := 34
abbrev fX3_other : Nat := 35
abbrev fX3_nextOf : Nat := 36
abbrev fX3_classes : Nat := 37
abbrev fX3_classId : Nat := 38
abbrev fX3_classAt : Nat := 39
abbrev fX3_parentId : Nat := 40
abbrev fX3_parent : Nat := 41
abbrev fX3_fieldMany : Nat := 42
abbrev fX3_memberFrom : Nat := 43
abbrev fX3_members : Nat := 44
abbrev fX3_memberId : Nat := 45
abbrev fX3_memberAt : Nat := 46
abbrev fX3_memberType : Nat := 47
abbrev fX3_isMethod : Nat := 48
abbrev fX3_parameterFrom : Nat := 49
abbrev fX3_body : Nat := 50
abbrev fX3_closeAt : Nat := 51
abbrev fX3_slot : Nat := 52
abbrev fX3_parameters : Nat := 53
abbrev fX3_parameterType : Nat := 54
abbrev fX3_parameterId : Nat := 55
abbrev fX3_hasProgram : Nat := 56
abbrev fX3_blockEnd : Nat := 57
abbrev fX3_bad : Nat := 58
abbrev fX3_mainClass : Nat := 59
abbrev fX3_here : Nat := 60
abbrev fX3_method : Nat := 61
abbrev fX3_variables : Nat := 62
abbrev fX3_variableId : Nat := 63
abbrev fX3_variableType : Nat := 64
abbrev fX3_isSet : Nat := 65
abbrev fX3_dead : Nat := 66
abbrev fX3_sets : Nat := 67
abbrev fX3_manyOf : Nat := 68
abbrev fX3_hasRun : Nat := 69
abbrev fX3_over : Nat := 70
abbrev fX3_heapNext : Nat := 71
abbrev fX3_heap : Nat := 72
abbrev fX3_bound : Nat := 73
abbrev fX3_made : Nat := 74
abbrev fX3_steps : Nat := 75
abbrev fX3_thrown : Nat := 76
abbrev fX3_ended : Nat := 77
abbrev fX3_printed : Nat := 78
abbrev fX3_output : Nat := 79
abbrev fX3_inputs : Nat := 80
abbrev fX3_input : Nat := 81
abbrev fX3_objects : Nat := 82
abbrev fX3_classOfObject : Nat := 83
abbrev fX3_wordsFrom : Nat := 84
abbrev fX3_wordsMany : Nat := 85
abbrev fX3_isReached : Nat := 86
abbrev fX3_newPlace : Nat := 87
abbrev fX3_waits : Nat := 88
abbrev fX3_waiting : Nat := 89
abbrev fX3_worded : Nat := 90
abbrev fX3_words : Nat := 91
abbrev fX3_isObject : Nat := 92
abbrev fX3_open : Nat := 93
abbrev fX3_openThis : Nat := 94
abbrev fX3_openFrom : Nat := 95
abbrev fX3_openMany : Nat := 96
abbrev fX3_openPile : Nat := 97
abbrev fX3_local : Nat := 98
abbrev fX3_isLocalObject : Nat := 99
abbrev fX3_piled : Nat := 100
abbrev fX3_pile : Nat := 101
abbrev fX3_isPileObject : Nat := 102
abbrev fX3_todo : Nat := 103
abbrev fX3_todoIs : Nat := 104
abbrev fX3_todoOf : Nat := 105
abbrev fX3_tries : Nat := 106
abbrev fX3_tryPile : Nat := 107
abbrev fX3_tryMany : Nat := 108
abbrev fX4_s : Nat := 0
abbrev fX4_end : Nat := 1
abbrev fX4_kind : Nat := 2
abbrev fX4_from : Nat := 3
abbrev fX4_to : Nat := 4
abbrev fX4_open : Nat := 5
abbrev fX4_names : Nat := 6
abbrev fX4_kinds : Nat := 7
abbrev fX4_closing : Nat := 8
abbrev fX5_cause : Nat := 0
abbrev fX5_stackTrace : Nat := 1
abbrev fX5_suppressedExceptions : Nat := 2
abbrev fX5_detailMessage : Nat := 3
abbrev fX5_backtrace : Nat := 4
abbrev fX5_depth : Nat := 5
abbrev fX5_answer : Nat := 6
abbrev fX6_name : Nat := 0
abbrev fX6_place : Nat := 1
abbrev fX6_parentName : Nat := 2
abbrev fX6_parent : Nat := 3
abbrev fX6_number : Nat := 4
abbrev fX6_members : Nat := 5
abbrev fX6_before : Nat := 6
abbrev fX6_fields : Nat := 7
abbrev fX7_isMethod : Nat := 0
abbrev fX7_type : Nat := 1
abbrev fX7_name : Nat := 2
abbrev fX7_place : Nat := 3
abbrev fX7_types : Nat := 4
abbrev fX7_names : Nat := 5
abbrev fX7_block : Nat := 6
abbrev fX7_closing : Nat := 7
abbrev fX7_code : Nat := 8
abbrev fX7_slots : Nat := 9
abbrev fX7_catches : Nat := 10
abbrev fX7_result : Nat := 11
abbrev fX8_all : Nat := 0
abbrev fX8_size : Nat := 1
abbrev fX9_kind : Nat := 0
abbrev fX9_place : Nat := 1
abbrev fX9_type : Nat := 2
abbrev fX9_name : Nat := 3
abbrev fX9_place0 : Nat := 4
abbrev fX9_value : Nat := 5
abbrev fX9_first : Nat := 6
abbrev fX9_second : Nat := 7
abbrev fX10_kind : Nat := 0
abbrev fX10_left : Nat := 1
abbrev fX10_right : Nat := 2
abbrev fX10_arguments : Nat := 3
abbrev fX10_what : Nat := 4
abbrev fX10_type : Nat := 5
abbrev fX11_reader : Nat := 0
abbrev fX11_kinds : Nat := 1
abbrev fX11_sizeName : Nat := 2
abbrev fX11_own : Nat := 3
abbrev fX11_method : Nat := 4
abbrev fX11_code : Nat := 5
abbrev fX11_here : Nat := 6
abbrev fX11_names : Nat := 7
abbrev fX11_types : Nat := 8
abbrev fX11_set : Nat := 9
abbrev fX11_isDead : Nat := 10
abbrev fX11_spine : Nat := 11
abbrev fX11_mainClass : Nat := 12
abbrev fX11_main : Nat := 13
abbrev fX12_cause : Nat := 0
abbrev fX12_stackTrace : Nat := 1
abbrev fX12_suppressedExceptions : Nat := 2
abbrev fX12_detailMessage : Nat := 3
abbrev fX12_backtrace : Nat := 4
abbrev fX12_depth : Nat := 5
abbrev fX12_how : Nat := 6
abbrev fJ5_modCount : Nat := 0
abbrev fJ5_elementData : Nat := 1
abbrev fJ5_size : Nat := 2
abbrev cJ0_init : ByteArray := prog_27_method_1_code
def yJ0_init : MethodName := ⟨RJ0, "<init>", "()V"⟩
abbrev mJ0_init : ch_M := (yJ0_init, cJ0_init, 1, none, [])
theorem can_J0_init : ch_can yJ0_init 0 = true := by decide +kernel
abbrev cJ1_init : ByteArray := prog_19_method_1_code
def yJ1_init : MethodName := ⟨RJ1, "<init>", "()V"⟩
abbrev mJ1_init : ch_M := (yJ1_init, cJ1_init, 1, none, [])
theorem can_J1_init : ch_can yJ1_init 0 = true := by decide +kernel
abbrev cJ10_checkIndex : ByteArray := prog_36_method_17_code
def yJ10_checkIndex : MethodName := ⟨RJ10, "checkIndex", "(II)I"⟩
abbrev mJ10_checkIndex : ch_M := (yJ10_checkIndex, cJ10_checkIndex, 2, (some .int), [])
theorem can_J10_checkIndex : ch_can yJ10_checkIndex 2 = true := by decide +kernel
abbrev cJ11_newLength : ByteArray := prog_39_method_27_code
def yJ11_newLength : MethodName := ⟨RJ11, "newLength", "(III)I"⟩
abbrev mJ11_newLength : ch_M := (yJ11_newLength, cJ11_newLength, 4, (some .int), [])
theorem can_J11_newLength : ch_can yJ11_newLength 3 = true := by decide +kernel
abbrev cJ11_hugeLength : ByteArray := prog_39_method_28_code
def yJ11_hugeLength : MethodName := ⟨RJ11, "hugeLength", "(II)I"⟩
abbrev mJ11_hugeLength : ch_M := (yJ11_hugeLength, cJ11_hugeLength, 3, (some .int), [])
theorem can_J11_hugeLength : ch_can yJ11_hugeLength 2 = true := by decide +kernel
abbrev cJ12_max : ByteArray := prog_21_method_65_code
def yJ12_max : MethodName := ⟨RJ12, "max", "(II)I"⟩
abbrev mJ12_max : ch_M := (yJ12_max, cJ12_max, 2, (some .int), [])
theorem can_J12_max : ch_can yJ12_max 2 = true := by decide +kernel
abbrev cJ12_min : ByteArray := prog_21_method_69_code
def yJ12_min : MethodName := ⟨RJ12, "min", "(II)I"⟩
abbrev mJ12_min : ch_M := (yJ12_min, cJ12_min, 2, (some .int), [])
theorem can_J12_min : ch_can yJ12_min 2 = true := by decide +kernel
abbrev cJ13_copyOf : ByteArray := prog_33_method_119_code
def yJ13_copyOf : MethodName := ⟨RJ13, "copyOf", "([Ljava/lang/Object;I)[Ljava/lang/Object;"⟩
abbrev mJ13_copyOf : ch_M := (yJ13_copyOf, cJ13_copyOf, 2, (some (.array (.object "java/lang/Object"))), [])
theorem can_J13_copyOf : ch_can yJ13_copyOf 2 = true := by decide +kernel
abbrev cJ13_copyOf_2 : ByteArray := prog_33_method_120_code
def yJ13_copyOf_2 : MethodName := ⟨RJ13, "copyOf", "([Ljava/lang/Object;ILjava/lang/Class;)[Ljava/lang/Object;"⟩
abbrev mJ13_copyOf_2 : ch_M := (yJ13_copyOf_2, cJ13_copyOf_2, 4, (some (.array (.object "java/lang/Object"))), [])
theorem can_J13_copyOf_2 : ch_can yJ13_copyOf_2 3 = true := by decide +kernel
abbrev cJ2_init : ByteArray := prog_22_method_1_code
def yJ2_init : MethodName := ⟨RJ2, "<init>", "()V"⟩
abbrev mJ2_init : ch_M := (yJ2_init, cJ2_init, 1, none, [])
theorem can_J2_init : ch_can yJ2_init 0 = true := by decide +kernel
abbrev cJ3_init : ByteArray := prog_30_method_1_code
def yJ3_init : MethodName := ⟨RJ3, "<init>", "()V"⟩
abbrev mJ3_init : ch_M := (yJ3_init, cJ3_init, 1, none, [])
theorem can_J3_init : ch_can yJ3_init 0 = true := by decide +kernel
abbrev cJ4_init : ByteArray := prog_31_method_1_code
def yJ4_init : MethodName := ⟨RJ4, "<init>", "()V"⟩
abbrev mJ4_init : ch_M := (yJ4_init, cJ4_init, 1, none, [])
theorem can_J4_init : ch_can yJ4_init 0 = true := by decide +kernel
abbrev cJ5_init : ByteArray := prog_32_method_2_code
def yJ5_init : MethodName := ⟨RJ5, "<init>", "()V"⟩
abbrev mJ5_init : ch_M := (yJ5_init, cJ5_init, 1, none, [])
theorem can_J5_init : ch_can yJ5_init 0 = true := by decide +kernel
abbrev cJ5_size : ByteArray := prog_32_method_8_code
def yJ5_size : MethodName := ⟨RJ5, "size", "()I"⟩
abbrev mJ5_size : ch_M := (yJ5_size, cJ5_size, 1, (some .int), [])
theorem can_J5_size : ch_can yJ5_size 0 = true := by decide +kernel
abbrev cJ5_get : ByteArray := prog_32_method_20_code
def yJ5_get : MethodName := ⟨RJ5, "get", "(I)Ljava/lang/Object;"⟩
abbrev mJ5_get : ch_M := (yJ5_get, cJ5_get, 2, (some (.object "java/lang/Object")), [])
theorem can_J5_get : ch_can yJ5_get 1 = true := by decide +kernel
abbrev cJ5_elementData : ByteArray := prog_32_method_18_code
def yJ5_elementData : MethodName := ⟨RJ5, "elementData", "(I)Ljava/lang/Object;"⟩
abbrev mJ5_elementData : ch_M := (yJ5_elementData, cJ5_elementData, 2, (some (.object "java/lang/Object")), [])
theorem can_J5_elementData : ch_can yJ5_elementData 1 = true := by decide +kernel
abbrev cJ5_add : ByteArray := prog_32_method_25_code
def yJ5_add : MethodName := ⟨RJ5, "add", "(Ljava/lang/Object;)Z"⟩
abbrev mJ5_add : ch_M := (yJ5_add, cJ5_add, 2, (some .boolean), [])
theorem can_J5_add : ch_can yJ5_add 1 = true := by decide +kernel
abbrev cJ5_add_2 : ByteArray := prog_32_method_24_code
def yJ5_add_2 : MethodName := ⟨RJ5, "add", "(Ljava/lang/Object;[Ljava/lang/Object;I)V"⟩
abbrev mJ5_add_2 : ch_M := (yJ5_add_2, cJ5_add_2, 4, none, [])
theorem can_J5_add_2 : ch_can yJ5_add_2 3 = true := by decide +kernel
abbrev cJ5_grow : ByteArray := prog_32_method_7_code
def yJ5_grow : MethodName := ⟨RJ5, "grow", "()[Ljava/lang/Object;"⟩
abbrev mJ5_grow : ch_M := (yJ5_grow, cJ5_grow, 1, (some (.array (.object "java/lang/Object"))), [])
theorem can_J5_grow : ch_can yJ5_grow 0 = true := by decide +kernel
abbrev cJ5_grow_2 : ByteArray := prog_32_method_6_code
def yJ5_grow_2 : MethodName := ⟨RJ5, "grow", "(I)[Ljava/lang/Object;"⟩
abbrev mJ5_grow_2 : ch_M := (yJ5_grow_2, cJ5_grow_2, 4, (some (.array (.object "java/lang/Object"))), [])
theorem can_J5_grow_2 : ch_can yJ5_grow_2 1 = true := by decide +kernel
abbrev cJ5_isEmpty : ByteArray := prog_32_method_9_code
def yJ5_isEmpty : MethodName := ⟨RJ5, "isEmpty", "()Z"⟩
abbrev mJ5_isEmpty : ch_M := (yJ5_isEmpty, cJ5_isEmpty, 1, (some .boolean), [])
theorem can_J5_isEmpty : ch_can yJ5_isEmpty 0 = true := by decide +kernel
abbrev cJ5_remove : ByteArray := prog_32_method_29_code
def yJ5_remove : MethodName := ⟨RJ5, "remove", "(I)Ljava/lang/Object;"⟩
abbrev mJ5_remove : ch_M := (yJ5_remove, cJ5_remove, 4, (some (.object "java/lang/Object")), [])
theorem can_J5_remove : ch_can yJ5_remove 1 = true := by decide +kernel
abbrev cJ5_fastRemove : ByteArray := prog_32_method_39_code
def yJ5_fastRemove : MethodName := ⟨RJ5, "fastRemove", "([Ljava/lang/Object;I)V"⟩
abbrev mJ5_fastRemove : ch_M := (yJ5_fastRemove, cJ5_fastRemove, 4, none, [])
theorem can_J5_fastRemove : ch_can yJ5_fastRemove 2 = true := by decide +kernel
abbrev cJ6_length : ByteArray := prog_23_method_54_code
def yJ6_length : MethodName := ⟨RJ6, "length", "()I"⟩
abbrev mJ6_length : ch_M := (yJ6_length, cJ6_length, 1, (some .int), [])
theorem can_J6_length : ch_can yJ6_length 0 = true := by decide +kernel
abbrev cJ6_coder : ByteArray := prog_23_method_152_code
def yJ6_coder : MethodName := ⟨RJ6, "coder", "()B"⟩
abbrev mJ6_coder : ch_M := (yJ6_coder, cJ6_coder, 1, (some .byte), [])
theorem can_J6_coder : ch_can yJ6_coder 0 = true := by decide +kernel
abbrev cJ6_charAt : ByteArray := prog_23_method_56_code
def yJ6_charAt : MethodName := ⟨RJ6, "charAt", "(I)C"⟩
abbrev mJ6_charAt : ch_M := (yJ6_charAt, cJ6_charAt, 2, (some .char), [])
theorem can_J6_charAt : ch_can yJ6_charAt 1 = true := by decide +kernel
abbrev cJ6_isLatin1 : ByteArray := prog_23_method_154_code
def yJ6_isLatin1 : MethodName := ⟨RJ6, "isLatin1", "()Z"⟩
abbrev mJ6_isLatin1 : ch_M := (yJ6_isLatin1, cJ6_isLatin1, 1, (some .boolean), [])
theorem can_J6_isLatin1 : ch_can yJ6_isLatin1 0 = true := by decide +kernel
abbrev cJ6_checkIndex : ByteArray := prog_23_method_155_code
def yJ6_checkIndex : MethodName := ⟨RJ6, "checkIndex", "(II)V"⟩
abbrev mJ6_checkIndex : ch_M := (yJ6_checkIndex, cJ6_checkIndex, 2, none, [])
theorem can_J6_checkIndex : ch_can yJ6_checkIndex 2 = true := by decide +kernel
abbrev cJ7_charAt : ByteArray := prog_24_method_2_code
def yJ7_charAt : MethodName := ⟨RJ7, "charAt", "([BI)C"⟩
abbrev mJ7_charAt : ch_M := (yJ7_charAt, cJ7_charAt, 2, (some .char), [])
theorem can_J7_charAt : ch_can yJ7_charAt 2 = true := by decide +kernel
abbrev cJ8_checkIndex : ByteArray := prog_40_method_11_code
def yJ8_checkIndex : MethodName := ⟨RJ8, "checkIndex", "(IILjava/util/function/BiFunction;)I"⟩
abbrev mJ8_checkIndex : ch_M := (yJ8_checkIndex, cJ8_checkIndex, 3, (some .int), [])
theorem can_J8_checkIndex : ch_can yJ8_checkIndex 3 = true := by decide +kernel
abbrev cJ9_charAt : ByteArray := prog_25_method_83_code
def yJ9_charAt : MethodName := ⟨RJ9, "charAt", "([BI)C"⟩
abbrev mJ9_charAt : ch_M := (yJ9_charAt, cJ9_charAt, 2, (some .char), [])
theorem can_J9_charAt : ch_can yJ9_charAt 2 = true := by decide +kernel
abbrev cJ9_checkIndex : ByteArray := prog_25_method_91_code
def yJ9_checkIndex : MethodName := ⟨RJ9, "checkIndex", "(I[B)V"⟩
abbrev mJ9_checkIndex : ch_M := (yJ9_checkIndex, cJ9_checkIndex, 2, none, [])
theorem can_J9_checkIndex : ch_can yJ9_checkIndex 2 = true := by decide +kernel
abbrev cJ9_length : ByteArray := prog_25_method_6_code
def yJ9_length : MethodName := ⟨RJ9, "length", "([B)I"⟩
abbrev mJ9_length : ch_M := (yJ9_length, cJ9_length, 1, (some .int), [])
theorem can_J9_length : ch_can yJ9_length 1 = true := by decide +kernel
abbrev cJ9_getChar : ByteArray := prog_25_method_5_code
def yJ9_getChar : MethodName := ⟨RJ9, "getChar", "([BI)C"⟩
abbrev mJ9_getChar : ch_M := (yJ9_getChar, cJ9_getChar, 2, (some .char), [])
theorem can_J9_getChar : ch_can yJ9_getChar 2 = true := by decide +kernel
abbrev cX0_init : ByteArray := prog_1_method_6_code
def yX0_init : MethodName := ⟨RX0, "<init>", "()V"⟩
abbrev mX0_init : ch_M := (yX0_init, cX0_init, 1, none, [])
theorem can_X0_init : ch_can yX0_init 0 = true := by decide +kernel
abbrev cX0_feed : ByteArray := prog_1_method_7_code
def yX0_feed : MethodName := ⟨RX0, "feed", "(IIIII)I"⟩
abbrev mX0_feed : ch_M := (yX0_feed, cX0_feed, 6, (some .int), [])
theorem can_X0_feed : ch_can yX0_feed 5 = true := by decide +kernel
abbrev cX0_put : ByteArray := prog_1_method_8_code
def yX0_put : MethodName := ⟨RX0, "put", "(I)V"⟩
abbrev mX0_put : ch_M := (yX0_put, cX0_put, 3, none, [])
theorem can_X0_put : ch_can yX0_put 1 = true := by decide +kernel
abbrev cX0_end : ByteArray := prog_1_method_9_code
def yX0_end : MethodName := ⟨RX0, "end", "(I)I"⟩
abbrev mX0_end : ch_M := (yX0_end, cX0_end, 2, (some .int), [])
theorem can_X0_end : ch_can yX0_end 1 = true := by decide +kernel
abbrev cX0_program : ByteArray := prog_1_method_10_code
def yX0_program : MethodName := ⟨RX0, "program", "()I"⟩
abbrev mX0_program : ch_M := (yX0_program, cX0_program, 5, (some .int), [(33, 51, 54, 54)])
theorem can_X0_program : ch_can yX0_program 0 = true := by decide +kernel
abbrev cX0_heap : ByteArray := prog_1_method_11_code
def yX0_heap : MethodName := ⟨RX0, "heap", "(I)I"⟩
abbrev mX0_heap : ch_M := (yX0_heap, cX0_heap, 2, (some .int), [])
theorem can_X0_heap : ch_can yX0_heap 1 = true := by decide +kernel
abbrev cX0_input : ByteArray := prog_1_method_12_code
def yX0_input : MethodName := ⟨RX0, "input", "(III)I"⟩
abbrev mX0_input : ch_M := (yX0_input, cX0_input, 4, (some .int), [])
theorem can_X0_input : ch_can yX0_input 3 = true := by decide +kernel
abbrev cX0_give : ByteArray := prog_1_method_13_code
def yX0_give : MethodName := ⟨RX0, "give", "(I)V"⟩
abbrev mX0_give : ch_M := (yX0_give, cX0_give, 2, none, [])
theorem can_X0_give : ch_can yX0_give 1 = true := by decide +kernel
abbrev cX0_start : ByteArray := prog_1_method_14_code
def yX0_start : MethodName := ⟨RX0, "start", "()I"⟩
abbrev mX0_start : ch_M := (yX0_start, cX0_start, 1, (some .int), [])
theorem can_X0_start : ch_can yX0_start 0 = true := by decide +kernel
abbrev cX0_isPlace : ByteArray := prog_1_method_2_code
def yX0_isPlace : MethodName := ⟨RX0, "isPlace", "(J)Z"⟩
abbrev mX0_isPlace : ch_M := (yX0_isPlace, cX0_isPlace, 2, (some .boolean), [])
theorem can_X0_isPlace : ch_can yX0_isPlace 1 = true := by decide +kernel
abbrev cX0_placeOf : ByteArray := prog_1_method_3_code
def yX0_placeOf : MethodName := ⟨RX0, "placeOf", "(J)I"⟩
abbrev mX0_placeOf : ch_M := (yX0_placeOf, cX0_placeOf, 2, (some .int), [])
theorem can_X0_placeOf : ch_can yX0_placeOf 1 = true := by decide +kernel
abbrev cX0_placeWord : ByteArray := prog_1_method_1_code
def yX0_placeWord : MethodName := ⟨RX0, "placeWord", "(I)J"⟩
abbrev mX0_placeWord : ch_M := (yX0_placeWord, cX0_placeWord, 1, (some .long), [])
theorem can_X0_placeWord : ch_can yX0_placeWord 1 = true := by decide +kernel
abbrev cX0_step : ByteArray := prog_1_method_15_code
def yX0_step : MethodName := ⟨RX0, "step", "(I)I"⟩
abbrev mX0_step : ch_M := (yX0_step, cX0_step, 2, (some .int), [])
theorem can_X0_step : ch_can yX0_step 1 = true := by decide +kernel
abbrev cX0_numberWord : ByteArray := prog_1_method_4_code
def yX0_numberWord : MethodName := ⟨RX0, "numberWord", "(I)J"⟩
abbrev mX0_numberWord : ch_M := (yX0_numberWord, cX0_numberWord, 1, (some .long), [])
theorem can_X0_numberWord : ch_can yX0_numberWord 1 = true := by decide +kernel
abbrev cX0_numberOf : ByteArray := prog_1_method_5_code
def yX0_numberOf : MethodName := ⟨RX0, "numberOf", "(J)I"⟩
abbrev mX0_numberOf : ch_M := (yX0_numberOf, cX0_numberOf, 2, (some .int), [])
theorem can_X0_numberOf : ch_can yX0_numberOf 1 = true := by decide +kernel
abbrev cX0_result : ByteArray := prog_1_method_16_code
def yX0_result : MethodName := ⟨RX0, "result", "()I"⟩
abbrev mX0_result : ch_M := (yX0_result, cX0_result, 1, (some .int), [])
theorem can_X0_result : ch_can yX0_result 0 = true := by decide +kernel
abbrev cX0_output : ByteArray := prog_1_method_17_code
def yX0_output : MethodName := ⟨RX0, "output", "(I)I"⟩
abbrev mX0_output : ch_M := (yX0_output, cX0_output, 2, (some .int), [])
theorem can_X0_output : ch_can yX0_output 1 = true := by decide +kernel
abbrev cX0_count : ByteArray := prog_1_method_18_code
def yX0_count : MethodName := ⟨RX0, "count", "(I)I"⟩
abbrev mX0_count : ch_M := (yX0_count, cX0_count, 2, (some .int), [])
theorem can_X0_count : ch_can yX0_count 1 = true := by decide +kernel
abbrev cX0_counted : ByteArray := prog_1_method_19_code
def yX0_counted : MethodName := ⟨RX0, "counted", "(I)I"⟩
abbrev mX0_counted : ch_M := (yX0_counted, cX0_counted, 2, (some .int), [])
theorem can_X0_counted : ch_can yX0_counted 1 = true := by decide +kernel
abbrev cX1_init : ByteArray := prog_5_method_1_code
def yX1_init : MethodName := ⟨RX1, "<init>", "()V"⟩
abbrev mX1_init : ch_M := (yX1_init, cX1_init, 1, none, [])
theorem can_X1_init : ch_can yX1_init 0 = true := by decide +kernel
abbrev cX1_begin : ByteArray := prog_5_method_3_code
def yX1_begin : MethodName := ⟨RX1, "begin", "([LClassHouse$Kind;LClassHouse$Kind;LClassHouse$Member;I)V"⟩
abbrev mX1_begin : ch_M := (yX1_begin, cX1_begin, 5, none, [])
theorem can_X1_begin : ch_can yX1_begin 4 = true := by decide +kernel
abbrev cX1_newObject : ByteArray := prog_5_method_6_code
def yX1_newObject : MethodName := ⟨RX1, "newObject", "(I)J"⟩
abbrev mX1_newObject : ch_M := (yX1_newObject, cX1_newObject, 5, (some .long), [])
theorem can_X1_newObject : ch_can yX1_newObject 1 = true := by decide +kernel
abbrev cX1_room : ByteArray := prog_5_method_5_code
def yX1_room : MethodName := ⟨RX1, "room", "(I)V"⟩
abbrev mX1_room : ch_M := (yX1_room, cX1_room, 2, none, [])
theorem can_X1_room : ch_can yX1_room 1 = true := by decide +kernel
abbrev cX1_collect : ByteArray := prog_5_method_10_code
def yX1_collect : MethodName := ⟨RX1, "collect", "()V"⟩
abbrev mX1_collect : ch_M := (yX1_collect, cX1_collect, 4, none, [])
theorem can_X1_collect : ch_can yX1_collect 0 = true := by decide +kernel
abbrev cX1_moved : ByteArray := prog_5_method_9_code
def yX1_moved : MethodName := ⟨RX1, "moved", "(J)J"⟩
abbrev mX1_moved : ch_M := (yX1_moved, cX1_moved, 5, (some .long), [])
theorem can_X1_moved : ch_can yX1_moved 1 = true := by decide +kernel
abbrev cX1_make : ByteArray := prog_5_method_4_code
def yX1_make : MethodName := ⟨RX1, "make", "(II)I"⟩
abbrev mX1_make : ch_M := (yX1_make, cX1_make, 4, (some .int), [])
theorem can_X1_make : ch_can yX1_make 2 = true := by decide +kernel
abbrev cX1_fill : ByteArray := prog_5_method_7_code
def yX1_fill : MethodName := ⟨RX1, "fill", "(ILClassHouse$Kind;)V"⟩
abbrev mX1_fill : ch_M := (yX1_fill, cX1_fill, 6, none, [])
theorem can_X1_fill : ch_can yX1_fill 2 = true := by decide +kernel
abbrev cX1_push : ByteArray := prog_5_method_12_code
def yX1_push : MethodName := ⟨RX1, "push", "(J)V"⟩
abbrev mX1_push : ch_M := (yX1_push, cX1_push, 3, none, [])
theorem can_X1_push : ch_can yX1_push 1 = true := by decide +kernel
abbrev cX1_enter : ByteArray := prog_5_method_15_code
def yX1_enter : MethodName := ⟨RX1, "enter", "(LClassHouse$Member;I)V"⟩
abbrev mX1_enter : ch_M := (yX1_enter, cX1_enter, 4, none, [])
theorem can_X1_enter : ch_can yX1_enter 2 = true := by decide +kernel
abbrev cX1_settle : ByteArray := prog_5_method_23_code
def yX1_settle : MethodName := ⟨RX1, "settle", "()V"⟩
abbrev mX1_settle : ch_M := (yX1_settle, cX1_settle, 4, none, [])
theorem can_X1_settle : ch_can yX1_settle 0 = true := by decide +kernel
abbrev cX1_free : ByteArray := prog_5_method_24_code
def yX1_free : MethodName := ⟨RX1, "free", "(LClassHouse$Row;I)V"⟩
abbrev mX1_free : ch_M := (yX1_free, cX1_free, 4, none, [])
theorem can_X1_free : ch_can yX1_free 2 = true := by decide +kernel
abbrev cX1_leave : ByteArray := prog_5_method_16_code
def yX1_leave : MethodName := ⟨RX1, "leave", "()V"⟩
abbrev mX1_leave : ch_M := (yX1_leave, cX1_leave, 1, none, [])
theorem can_X1_leave : ch_can yX1_leave 0 = true := by decide +kernel
abbrev cX1_goOn : ByteArray := prog_5_method_25_code
def yX1_goOn : MethodName := ⟨RX1, "goOn", "()V"⟩
abbrev mX1_goOn : ch_M := (yX1_goOn, cX1_goOn, 1, none, [])
theorem can_X1_goOn : ch_can yX1_goOn 0 = true := by decide +kernel
abbrev cX1_local : ByteArray := prog_5_method_17_code
def yX1_local : MethodName := ⟨RX1, "local", "(I)J"⟩
abbrev mX1_local : ch_M := (yX1_local, cX1_local, 2, (some .long), [])
theorem can_X1_local : ch_can yX1_local 1 = true := by decide +kernel
abbrev cX1_step : ByteArray := prog_5_method_20_code
def yX1_step : MethodName := ⟨RX1, "step", "(I)I"⟩
abbrev mX1_step : ch_M := (yX1_step, cX1_step, 4, (some .int), [(24, 32, 35, 41), (24, 32, 61, 122)])
theorem can_X1_step : ch_can yX1_step 1 = true := by decide +kernel
abbrev cX1_does : ByteArray := prog_5_method_26_code
def yX1_does : MethodName := ⟨RX1, "does", "()V"⟩
abbrev mX1_does : ch_M := (yX1_does, cX1_does, 5, none, [])
theorem can_X1_does : ch_can yX1_does 0 = true := by decide +kernel
abbrev cX1_take : ByteArray := prog_5_method_28_code
def yX1_take : MethodName := ⟨RX1, "take", "()I"⟩
abbrev mX1_take : ch_M := (yX1_take, cX1_take, 2, (some .int), [])
theorem can_X1_take : ch_can yX1_take 0 = true := by decide +kernel
abbrev cX1_pop : ByteArray := prog_5_method_13_code
def yX1_pop : MethodName := ⟨RX1, "pop", "()J"⟩
abbrev mX1_pop : ch_M := (yX1_pop, cX1_pop, 1, (some .long), [])
theorem can_X1_pop : ch_can yX1_pop 0 = true := by decide +kernel
abbrev cX1_object : ByteArray := prog_5_method_30_code
def yX1_object : MethodName := ⟨RX1, "object", "(J)I"⟩
abbrev mX1_object : ch_M := (yX1_object, cX1_object, 3, (some .int), [])
theorem can_X1_object : ch_can yX1_object 1 = true := by decide +kernel
abbrev cX1_fault : ByteArray := prog_5_method_2_code
def yX1_fault : MethodName := ⟨RX1, "fault", "(I)LClassHouse$Thrown;"⟩
abbrev mX1_fault : ch_M := (yX1_fault, cX1_fault, 2, (some (.object "ClassHouse$Thrown")), [])
theorem can_X1_fault : ch_can yX1_fault 1 = true := by decide +kernel
abbrev cX1_element : ByteArray := prog_5_method_32_code
def yX1_element : MethodName := ⟨RX1, "element", "()V"⟩
abbrev mX1_element : ch_M := (yX1_element, cX1_element, 2, none, [])
theorem can_X1_element : ch_can yX1_element 0 = true := by decide +kernel
abbrev cX1_popNumber : ByteArray := prog_5_method_14_code
def yX1_popNumber : MethodName := ⟨RX1, "popNumber", "()I"⟩
abbrev mX1_popNumber : ch_M := (yX1_popNumber, cX1_popNumber, 1, (some .int), [])
theorem can_X1_popNumber : ch_can yX1_popNumber 0 = true := by decide +kernel
abbrev cX1_elementAt : ByteArray := prog_5_method_31_code
def yX1_elementAt : MethodName := ⟨RX1, "elementAt", "(JI)I"⟩
abbrev mX1_elementAt : ch_M := (yX1_elementAt, cX1_elementAt, 5, (some .int), [])
theorem can_X1_elementAt : ch_can yX1_elementAt 2 = true := by decide +kernel
abbrev cX1_newRow : ByteArray := prog_5_method_34_code
def yX1_newRow : MethodName := ⟨RX1, "newRow", "()V"⟩
abbrev mX1_newRow : ch_M := (yX1_newRow, cX1_newRow, 3, none, [])
theorem can_X1_newRow : ch_can yX1_newRow 0 = true := by decide +kernel
abbrev cX1_newInts : ByteArray := prog_5_method_8_code
def yX1_newInts : MethodName := ⟨RX1, "newInts", "(I)J"⟩
abbrev mX1_newInts : ch_M := (yX1_newInts, cX1_newInts, 4, (some .long), [])
theorem can_X1_newInts : ch_can yX1_newInts 1 = true := by decide +kernel
abbrev cX1_cast : ByteArray := prog_5_method_35_code
def yX1_cast : MethodName := ⟨RX1, "cast", "(I)V"⟩
abbrev mX1_cast : ch_M := (yX1_cast, cX1_cast, 4, none, [])
theorem can_X1_cast : ch_can yX1_cast 1 = true := by decide +kernel
abbrev cX1_isOf : ByteArray := prog_5_method_19_code
def yX1_isOf : MethodName := ⟨RX1, "isOf", "(JI)Z"⟩
abbrev mX1_isOf : ch_M := (yX1_isOf, cX1_isOf, 5, (some .boolean), [])
theorem can_X1_isOf : ch_can yX1_isOf 2 = true := by decide +kernel
abbrev cX1_classOf : ByteArray := prog_5_method_18_code
def yX1_classOf : MethodName := ⟨RX1, "classOf", "(I)I"⟩
abbrev mX1_classOf : ch_M := (yX1_classOf, cX1_classOf, 2, (some .int), [])
theorem can_X1_classOf : ch_can yX1_classOf 1 = true := by decide +kernel
abbrev cX1_join : ByteArray := prog_5_method_36_code
def yX1_join : MethodName := ⟨RX1, "join", "(I)V"⟩
abbrev mX1_join : ch_M := (yX1_join, cX1_join, 6, none, [])
theorem can_X1_join : ch_can yX1_join 1 = true := by decide +kernel
abbrev cX1_joined : ByteArray := prog_5_method_37_code
def yX1_joined : MethodName := ⟨RX1, "joined", "(III)I"⟩
abbrev mX1_joined : ch_M := (yX1_joined, cX1_joined, 4, (some .int), [])
theorem can_X1_joined : ch_can yX1_joined 3 = true := by decide +kernel
abbrev cX1_goes : ByteArray := prog_5_method_27_code
def yX1_goes : MethodName := ⟨RX1, "goes", "(LClassHouse$Row;II)V"⟩
abbrev mX1_goes : ch_M := (yX1_goes, cX1_goes, 10, none, [])
theorem can_X1_goes : ch_can yX1_goes 3 = true := by decide +kernel
abbrev cX1_putElement : ByteArray := prog_5_method_33_code
def yX1_putElement : MethodName := ⟨RX1, "putElement", "()V"⟩
abbrev mX1_putElement : ch_M := (yX1_putElement, cX1_putElement, 3, none, [])
theorem can_X1_putElement : ch_can yX1_putElement 0 = true := by decide +kernel
abbrev cX1_show : ByteArray := prog_5_method_29_code
def yX1_show : MethodName := ⟨RX1, "show", "(I)V"⟩
abbrev mX1_show : ch_M := (yX1_show, cX1_show, 2, none, [])
theorem can_X1_show : ch_can yX1_show 1 = true := by decide +kernel
abbrev cX1_invoke : ByteArray := prog_5_method_38_code
def yX1_invoke : MethodName := ⟨RX1, "invoke", "(II)V"⟩
abbrev mX1_invoke : ch_M := (yX1_invoke, cX1_invoke, 6, none, [])
theorem can_X1_invoke : ch_can yX1_invoke 2 = true := by decide +kernel
abbrev cX1_gives : ByteArray := prog_5_method_39_code
def yX1_gives : MethodName := ⟨RX1, "gives", "(Z)V"⟩
abbrev mX1_gives : ch_M := (yX1_gives, cX1_gives, 4, none, [])
theorem can_X1_gives : ch_can yX1_gives 1 = true := by decide +kernel
abbrev cX1_end : ByteArray := prog_5_method_21_code
def yX1_end : MethodName := ⟨RX1, "end", "(I)V"⟩
abbrev mX1_end : ch_M := (yX1_end, cX1_end, 2, none, [])
theorem can_X1_end : ch_can yX1_end 1 = true := by decide +kernel
abbrev cX1_lands : ByteArray := prog_5_method_22_code
def yX1_lands : MethodName := ⟨RX1, "lands", "(J)V"⟩
abbrev mX1_lands : ch_M := (yX1_lands, cX1_lands, 10, none, [])
theorem can_X1_lands : ch_can yX1_lands 1 = true := by decide +kernel
abbrev cX1_reached : ByteArray := prog_5_method_11_code
def yX1_reached : MethodName := ⟨RX1, "reached", "()I"⟩
abbrev mX1_reached : ch_M := (yX1_reached, cX1_reached, 1, (some .int), [])
theorem can_X1_reached : ch_can yX1_reached 0 = true := by decide +kernel
abbrev cX10_init : ByteArray := prog_12_method_1_code
def yX10_init : MethodName := ⟨RX10, "<init>", "(II)V"⟩
abbrev mX10_init : ch_M := (yX10_init, cX10_init, 3, none, [])
theorem can_X10_init : ch_can yX10_init 2 = true := by decide +kernel
abbrev cX10_isPlace : ByteArray := prog_12_method_2_code
def yX10_isPlace : MethodName := ⟨RX10, "isPlace", "()Z"⟩
abbrev mX10_isPlace : ch_M := (yX10_isPlace, cX10_isPlace, 1, (some .boolean), [])
theorem can_X10_isPlace : ch_can yX10_isPlace 0 = true := by decide +kernel
abbrev cX10_isCall : ByteArray := prog_12_method_3_code
def yX10_isCall : MethodName := ⟨RX10, "isCall", "()Z"⟩
abbrev mX10_isCall : ch_M := (yX10_isCall, cX10_isCall, 1, (some .boolean), [])
theorem can_X10_isCall : ch_can yX10_isCall 0 = true := by decide +kernel
abbrev cX11_init : ByteArray := prog_2_method_1_code
def yX11_init : MethodName := ⟨RX11, "<init>", "(LClassHouse$Reader;)V"⟩
abbrev mX11_init : ch_M := (yX11_init, cX11_init, 4, none, [])
theorem can_X11_init : ch_can yX11_init 1 = true := by decide +kernel
abbrev cX11_check : ByteArray := prog_2_method_7_code
def yX11_check : MethodName := ⟨RX11, "check", "(I)V"⟩
abbrev mX11_check : ch_M := (yX11_check, cX11_check, 5, none, [])
theorem can_X11_check : ch_can yX11_check 1 = true := by decide +kernel
abbrev cX11_checkClasses : ByteArray := prog_2_method_8_code
def yX11_checkClasses : MethodName := ⟨RX11, "checkClasses", "()V"⟩
abbrev mX11_checkClasses : ch_M := (yX11_checkClasses, cX11_checkClasses, 5, none, [])
theorem can_X11_checkClasses : ch_can yX11_checkClasses 0 = true := by decide +kernel
abbrev cX11_kindOf : ByteArray := prog_2_method_4_code
def yX11_kindOf : MethodName := ⟨RX11, "kindOf", "(I)LClassHouse$Kind;"⟩
abbrev mX11_kindOf : ch_M := (yX11_kindOf, cX11_kindOf, 3, (some (.object "ClassHouse$Kind")), [])
theorem can_X11_kindOf : ch_can yX11_kindOf 1 = true := by decide +kernel
abbrev cX11_must : ByteArray := prog_2_method_2_code
def yX11_must : MethodName := ⟨RX11, "must", "(ZI)V"⟩
abbrev mX11_must : ch_M := (yX11_must, cX11_must, 2, none, [])
theorem can_X11_must : ch_can yX11_must 2 = true := by decide +kernel
abbrev cX11_fieldsOf : ByteArray := prog_2_method_9_code
def yX11_fieldsOf : MethodName := ⟨RX11, "fieldsOf", "(LClassHouse$Kind;)I"⟩
abbrev mX11_fieldsOf : ch_M := (yX11_fieldsOf, cX11_fieldsOf, 3, (some .int), [])
theorem can_X11_fieldsOf : ch_can yX11_fieldsOf 1 = true := by decide +kernel
abbrev cX11_checkMembers : ByteArray := prog_2_method_10_code
def yX11_checkMembers : MethodName := ⟨RX11, "checkMembers", "(LClassHouse$Kind;)V"⟩
abbrev mX11_checkMembers : ch_M := (yX11_checkMembers, cX11_checkMembers, 4, none, [])
theorem can_X11_checkMembers : ch_can yX11_checkMembers 1 = true := by decide +kernel
abbrev cX11_typeOf : ByteArray := prog_2_method_5_code
def yX11_typeOf : MethodName := ⟨RX11, "typeOf", "(I)I"⟩
abbrev mX11_typeOf : ch_M := (yX11_typeOf, cX11_typeOf, 3, (some .int), [])
theorem can_X11_typeOf : ch_can yX11_typeOf 1 = true := by decide +kernel
abbrev cX11_checkSignature : ByteArray := prog_2_method_11_code
def yX11_checkSignature : MethodName := ⟨RX11, "checkSignature", "(LClassHouse$Kind;LClassHouse$Member;)V"⟩
abbrev mX11_checkSignature : ch_M := (yX11_checkSignature, cX11_checkSignature, 6, none, [])
theorem can_X11_checkSignature : ch_can yX11_checkSignature 2 = true := by decide +kernel
abbrev cX11_checkMain : ByteArray := prog_2_method_12_code
def yX11_checkMain : MethodName := ⟨RX11, "checkMain", "(I)V"⟩
abbrev mX11_checkMain : ch_M := (yX11_checkMain, cX11_checkMain, 2, none, [])
theorem can_X11_checkMain : ch_can yX11_checkMain 1 = true := by decide +kernel
abbrev cX11_checkMethod : ByteArray := prog_2_method_15_code
def yX11_checkMethod : MethodName := ⟨RX11, "checkMethod", "(LClassHouse$Kind;LClassHouse$Member;)V"⟩
abbrev mX11_checkMethod : ch_M := (yX11_checkMethod, cX11_checkMethod, 4, none, [])
theorem can_X11_checkMethod : ch_can yX11_checkMethod 2 = true := by decide +kernel
abbrev cX11_declare : ByteArray := prog_2_method_16_code
def yX11_declare : MethodName := ⟨RX11, "declare", "(IIZ)V"⟩
abbrev mX11_declare : ch_M := (yX11_declare, cX11_declare, 5, none, [])
theorem can_X11_declare : ch_can yX11_declare 3 = true := by decide +kernel
abbrev cX11_block : ByteArray := prog_2_method_17_code
def yX11_block : MethodName := ⟨RX11, "block", "([LClassHouse$Statement;)V"⟩
abbrev mX11_block : ch_M := (yX11_block, cX11_block, 4, none, [])
theorem can_X11_block : ch_can yX11_block 1 = true := by decide +kernel
abbrev cX11_statement : ByteArray := prog_2_method_19_code
def yX11_statement : MethodName := ⟨RX11, "statement", "(LClassHouse$Statement;)V"⟩
abbrev mX11_statement : ch_M := (yX11_statement, cX11_statement, 3, none, [])
theorem can_X11_statement : ch_can yX11_statement 1 = true := by decide +kernel
abbrev cX11_tell : ByteArray := prog_2_method_21_code
def yX11_tell : MethodName := ⟨RX11, "tell", "(LClassHouse$Statement;)V"⟩
abbrev mX11_tell : ch_M := (yX11_tell, cX11_tell, 3, none, [])
theorem can_X11_tell : ch_can yX11_tell 1 = true := by decide +kernel
abbrev cX11_must_2 : ByteArray := prog_2_method_3_code
def yX11_must_2 : MethodName := ⟨RX11, "must", "(Z)V"⟩
abbrev mX11_must_2 : ch_M := (yX11_must_2, cX11_must_2, 2, none, [])
theorem can_X11_must_2 : ch_can yX11_must_2 1 = true := by decide +kernel
abbrev cX11_value : ByteArray := prog_2_method_28_code
def yX11_value : MethodName := ⟨RX11, "value", "(LClassHouse$Value;)I"⟩
abbrev mX11_value : ch_M := (yX11_value, cX11_value, 5, (some .int), [])
theorem can_X11_value : ch_can yX11_value 1 = true := by decide +kernel
abbrev cX11_first : ByteArray := prog_2_method_29_code
def yX11_first : MethodName := ⟨RX11, "first", "(LClassHouse$Value;)I"⟩
abbrev mX11_first : ch_M := (yX11_first, cX11_first, 4, (some .int), [])
theorem can_X11_first : ch_can yX11_first 1 = true := by decide +kernel
abbrev cX11_add : ByteArray := prog_2_method_14_code
def yX11_add : MethodName := ⟨RX11, "add", "(II)V"⟩
abbrev mX11_add : ch_M := (yX11_add, cX11_add, 3, none, [])
theorem can_X11_add : ch_can yX11_add 2 = true := by decide +kernel
abbrev cX11_add_2 : ByteArray := prog_2_method_13_code
def yX11_add_2 : MethodName := ⟨RX11, "add", "(I)V"⟩
abbrev mX11_add_2 : ch_M := (yX11_add_2, cX11_add_2, 2, none, [])
theorem can_X11_add_2 : ch_can yX11_add_2 1 = true := by decide +kernel
abbrev cX11_named : ByteArray := prog_2_method_30_code
def yX11_named : MethodName := ⟨RX11, "named", "(I)I"⟩
abbrev mX11_named : ch_M := (yX11_named, cX11_named, 4, (some .int), [])
theorem can_X11_named : ch_can yX11_named 1 = true := by decide +kernel
abbrev cX11_called : ByteArray := prog_2_method_31_code
def yX11_called : MethodName := ⟨RX11, "called", "(LClassHouse$Kind;LClassHouse$Value;)I"⟩
abbrev mX11_called : ch_M := (yX11_called, cX11_called, 5, (some .int), [])
theorem can_X11_called : ch_can yX11_called 2 = true := by decide +kernel
abbrev cX11_isSub : ByteArray := prog_2_method_6_code
def yX11_isSub : MethodName := ⟨RX11, "isSub", "(II)Z"⟩
abbrev mX11_isSub : ch_M := (yX11_isSub, cX11_isSub, 3, (some .boolean), [])
theorem can_X11_isSub : ch_can yX11_isSub 2 = true := by decide +kernel
abbrev cX11_behind : ByteArray := prog_2_method_32_code
def yX11_behind : MethodName := ⟨RX11, "behind", "(LClassHouse$Value;I)I"⟩
abbrev mX11_behind : ch_M := (yX11_behind, cX11_behind, 6, (some .int), [])
theorem can_X11_behind : ch_can yX11_behind 2 = true := by decide +kernel
abbrev cX11_signed : ByteArray := prog_2_method_34_code
def yX11_signed : MethodName := ⟨RX11, "signed", "(LClassHouse$Value;I)I"⟩
abbrev mX11_signed : ch_M := (yX11_signed, cX11_signed, 5, (some .int), [])
theorem can_X11_signed : ch_can yX11_signed 2 = true := by decide +kernel
abbrev cX11_isReference : ByteArray := prog_2_method_33_code
def yX11_isReference : MethodName := ⟨RX11, "isReference", "(I)Z"⟩
abbrev mX11_isReference : ch_M := (yX11_isReference, cX11_isReference, 1, (some .boolean), [])
theorem can_X11_isReference : ch_can yX11_isReference 1 = true := by decide +kernel
abbrev cX11_put : ByteArray := prog_2_method_22_code
def yX11_put : MethodName := ⟨RX11, "put", "(LClassHouse$Statement;)V"⟩
abbrev mX11_put : ch_M := (yX11_put, cX11_put, 8, none, [])
theorem can_X11_put : ch_can yX11_put 1 = true := by decide +kernel
abbrev cX11_either : ByteArray := prog_2_method_25_code
def yX11_either : MethodName := ⟨RX11, "either", "(LClassHouse$Statement;)V"⟩
abbrev mX11_either : ch_M := (yX11_either, cX11_either, 8, none, [])
theorem can_X11_either : ch_can yX11_either 1 = true := by decide +kernel
abbrev cX11_held : ByteArray := prog_2_method_23_code
def yX11_held : MethodName := ⟨RX11, "held", "()[Z"⟩
abbrev mX11_held : ch_M := (yX11_held, cX11_held, 2, (some (.array .boolean)), [])
theorem can_X11_held : ch_can yX11_held 0 = true := by decide +kernel
abbrev cX11_join : ByteArray := prog_2_method_24_code
def yX11_join : MethodName := ⟨RX11, "join", "([ZZ)V"⟩
abbrev mX11_join : ch_M := (yX11_join, cX11_join, 4, none, [])
theorem can_X11_join : ch_can yX11_join 2 = true := by decide +kernel
abbrev cX11_loop : ByteArray := prog_2_method_26_code
def yX11_loop : MethodName := ⟨RX11, "loop", "(LClassHouse$Statement;)V"⟩
abbrev mX11_loop : ch_M := (yX11_loop, cX11_loop, 6, none, [])
theorem can_X11_loop : ch_can yX11_loop 1 = true := by decide +kernel
abbrev cX11_isObject : ByteArray := prog_2_method_20_code
def yX11_isObject : MethodName := ⟨RX11, "isObject", "(I)Z"⟩
abbrev mX11_isObject : ch_M := (yX11_isObject, cX11_isObject, 1, (some .boolean), [])
theorem can_X11_isObject : ch_can yX11_isObject 1 = true := by decide +kernel
abbrev cX11_tries : ByteArray := prog_2_method_27_code
def yX11_tries : MethodName := ⟨RX11, "tries", "(LClassHouse$Statement;)V"⟩
abbrev mX11_tries : ch_M := (yX11_tries, cX11_tries, 13, none, [])
theorem can_X11_tries : ch_can yX11_tries 1 = true := by decide +kernel
abbrev cX11_drop : ByteArray := prog_2_method_18_code
def yX11_drop : MethodName := ⟨RX11, "drop", "(I)V"⟩
abbrev mX11_drop : ch_M := (yX11_drop, cX11_drop, 2, none, [])
theorem can_X11_drop : ch_can yX11_drop 1 = true := by decide +kernel
abbrev cX12_init : ByteArray := prog_3_method_1_code
def yX12_init : MethodName := ⟨RX12, "<init>", "(I)V"⟩
abbrev mX12_init : ch_M := (yX12_init, cX12_init, 2, none, [])
theorem can_X12_init : ch_can yX12_init 1 = true := by decide +kernel
abbrev cX2_init : ByteArray := prog_11_method_1_code
def yX2_init : MethodName := ⟨RX2, "<init>", "()V"⟩
abbrev mX2_init : ch_M := (yX2_init, cX2_init, 1, none, [])
theorem can_X2_init : ch_can yX2_init 0 = true := by decide +kernel
abbrev cX2_of : ByteArray := prog_11_method_2_code
def yX2_of : MethodName := ⟨RX2, "of", "(J)LClassHouse$Thrown;"⟩
abbrev mX2_of : ch_M := (yX2_of, cX2_of, 3, (some (.object "ClassHouse$Thrown")), [])
theorem can_X2_of : ch_can yX2_of 1 = true := by decide +kernel
abbrev cX3_init : ByteArray := prog_14_method_1_code
def yX3_init : MethodName := ⟨RX3, "<init>", "()V"⟩
abbrev mX3_init : ch_M := (yX3_init, cX3_init, 1, none, [])
theorem can_X3_init : ch_can yX3_init 0 = true := by decide +kernel
abbrev cX3_text : ByteArray := prog_14_method_2_code
def yX3_text : MethodName := ⟨RX3, "text", "(IIIIIII)V"⟩
abbrev mX3_text : ch_M := (yX3_text, cX3_text, 8, none, [])
theorem can_X3_text : ch_can yX3_text 7 = true := by decide +kernel
abbrev cX3_program : ByteArray := prog_14_method_53_code
def yX3_program : MethodName := ⟨RX3, "program", "()I"⟩
abbrev mX3_program : ch_M := (yX3_program, cX3_program, 5, (some .int), [])
theorem can_X3_program : ch_can yX3_program 0 = true := by decide +kernel
abbrev cX3_knownNames : ByteArray := prog_14_method_3_code
def yX3_knownNames : MethodName := ⟨RX3, "knownNames", "()V"⟩
abbrev mX3_knownNames : ch_M := (yX3_knownNames, cX3_knownNames, 5, none, [])
theorem can_X3_knownNames : ch_can yX3_knownNames 0 = true := by decide +kernel
abbrev cX3_next : ByteArray := prog_14_method_12_code
def yX3_next : MethodName := ⟨RX3, "next", "()V"⟩
abbrev mX3_next : ch_M := (yX3_next, cX3_next, 4, none, [])
theorem can_X3_next : ch_can yX3_next 0 = true := by decide +kernel
abbrev cX3_byteAt : ByteArray := prog_14_method_7_code
def yX3_byteAt : MethodName := ⟨RX3, "byteAt", "(I)I"⟩
abbrev mX3_byteAt : ch_M := (yX3_byteAt, cX3_byteAt, 2, (some .int), [])
theorem can_X3_byteAt : ch_can yX3_byteAt 1 = true := by decide +kernel
abbrev cX3_isLetter : ByteArray := prog_14_method_6_code
def yX3_isLetter : MethodName := ⟨RX3, "isLetter", "(I)Z"⟩
abbrev mX3_isLetter : ch_M := (yX3_isLetter, cX3_isLetter, 1, (some .boolean), [])
theorem can_X3_isLetter : ch_can yX3_isLetter 1 = true := by decide +kernel
abbrev cX3_isIn : ByteArray := prog_14_method_4_code
def yX3_isIn : MethodName := ⟨RX3, "isIn", "(JJJ)Z"⟩
abbrev mX3_isIn : ch_M := (yX3_isIn, cX3_isIn, 6, (some .boolean), [])
theorem can_X3_isIn : ch_can yX3_isIn 3 = true := by decide +kernel
abbrev cX3_isDigit : ByteArray := prog_14_method_5_code
def yX3_isDigit : MethodName := ⟨RX3, "isDigit", "(I)Z"⟩
abbrev mX3_isDigit : ch_M := (yX3_isDigit, cX3_isDigit, 1, (some .boolean), [])
theorem can_X3_isDigit : ch_can yX3_isDigit 1 = true := by decide +kernel
abbrev cX3_keyOf : ByteArray := prog_14_method_9_code
def yX3_keyOf : MethodName := ⟨RX3, "keyOf", "()I"⟩
abbrev mX3_keyOf : ch_M := (yX3_keyOf, cX3_keyOf, 1, (some .int), [])
theorem can_X3_keyOf : ch_can yX3_keyOf 0 = true := by decide +kernel
abbrev cX3_isText : ByteArray := prog_14_method_8_code
def yX3_isText : MethodName := ⟨RX3, "isText", "(IIIIII)Z"⟩
abbrev mX3_isText : ch_M := (yX3_isText, cX3_isText, 9, (some .boolean), [])
theorem can_X3_isText : ch_can yX3_isText 6 = true := by decide +kernel
abbrev cX3_nameOf : ByteArray := prog_14_method_10_code
def yX3_nameOf : MethodName := ⟨RX3, "nameOf", "()I"⟩
abbrev mX3_nameOf : ch_M := (yX3_nameOf, cX3_nameOf, 4, (some .int), [])
theorem can_X3_nameOf : ch_can yX3_nameOf 0 = true := by decide +kernel
abbrev cX3_isSignByte : ByteArray := prog_14_method_11_code
def yX3_isSignByte : MethodName := ⟨RX3, "isSignByte", "(I)Z"⟩
abbrev mX3_isSignByte : ch_M := (yX3_isSignByte, cX3_isSignByte, 1, (some .boolean), [])
theorem can_X3_isSignByte : ch_can yX3_isSignByte 1 = true := by decide +kernel
abbrev cX3_isKey : ByteArray := prog_14_method_15_code
def yX3_isKey : MethodName := ⟨RX3, "isKey", "(I)Z"⟩
abbrev mX3_isKey : ch_M := (yX3_isKey, cX3_isKey, 2, (some .boolean), [])
theorem can_X3_isKey : ch_can yX3_isKey 1 = true := by decide +kernel
abbrev cX3_passes : ByteArray := prog_14_method_16_code
def yX3_passes : MethodName := ⟨RX3, "passes", "(Z)Z"⟩
abbrev mX3_passes : ch_M := (yX3_passes, cX3_passes, 3, (some .boolean), [])
theorem can_X3_passes : ch_can yX3_passes 1 = true := by decide +kernel
abbrev cX3_fails : ByteArray := prog_14_method_13_code
def yX3_fails : MethodName := ⟨RX3, "fails", "(I)I"⟩
abbrev mX3_fails : ch_M := (yX3_fails, cX3_fails, 2, (some .int), [])
theorem can_X3_fails : ch_can yX3_fails 1 = true := by decide +kernel
abbrev cX3_readClass : ByteArray := prog_14_method_40_code
def yX3_readClass : MethodName := ⟨RX3, "readClass", "()V"⟩
abbrev mX3_readClass : ch_M := (yX3_readClass, cX3_readClass, 2, none, [])
theorem can_X3_readClass : ch_can yX3_readClass 0 = true := by decide +kernel
abbrev cX3_name : ByteArray := prog_14_method_19_code
def yX3_name : MethodName := ⟨RX3, "name", "()I"⟩
abbrev mX3_name : ch_M := (yX3_name, cX3_name, 2, (some .int), [])
theorem can_X3_name : ch_can yX3_name 0 = true := by decide +kernel
abbrev cX3_isSign : ByteArray := prog_14_method_14_code
def yX3_isSign : MethodName := ⟨RX3, "isSign", "(I)Z"⟩
abbrev mX3_isSign : ch_M := (yX3_isSign, cX3_isSign, 2, (some .boolean), [])
theorem can_X3_isSign : ch_can yX3_isSign 1 = true := by decide +kernel
abbrev cX3_opens : ByteArray := prog_14_method_17_code
def yX3_opens : MethodName := ⟨RX3, "opens", "(Z)Z"⟩
abbrev mX3_opens : ch_M := (yX3_opens, cX3_opens, 3, (some .boolean), [])
theorem can_X3_opens : ch_can yX3_opens 1 = true := by decide +kernel
abbrev cX3_member : ByteArray := prog_14_method_41_code
def yX3_member : MethodName := ⟨RX3, "member", "()V"⟩
abbrev mX3_member : ch_M := (yX3_member, cX3_member, 4, none, [])
theorem can_X3_member : ch_can yX3_member 0 = true := by decide +kernel
abbrev cX3_type : ByteArray := prog_14_method_35_code
def yX3_type : MethodName := ⟨RX3, "type", "()I"⟩
abbrev mX3_type : ch_M := (yX3_type, cX3_type, 3, (some .int), [])
theorem can_X3_type : ch_can yX3_type 0 = true := by decide +kernel
abbrev cX3_isType : ByteArray := prog_14_method_34_code
def yX3_isType : MethodName := ⟨RX3, "isType", "()Z"⟩
abbrev mX3_isType : ch_M := (yX3_isType, cX3_isType, 1, (some .boolean), [])
theorem can_X3_isType : ch_can yX3_isType 0 = true := by decide +kernel
abbrev cX3_closes : ByteArray := prog_14_method_18_code
def yX3_closes : MethodName := ⟨RX3, "closes", "(I)V"⟩
abbrev mX3_closes : ch_M := (yX3_closes, cX3_closes, 2, none, [])
theorem can_X3_closes : ch_can yX3_closes 1 = true := by decide +kernel
abbrev cX3_block : ByteArray := prog_14_method_33_code
def yX3_block : MethodName := ⟨RX3, "block", "()I"⟩
abbrev mX3_block : ch_M := (yX3_block, cX3_block, 4, (some .int), [])
theorem can_X3_block : ch_can yX3_block 0 = true := by decide +kernel
abbrev cX3_statement : ByteArray := prog_14_method_38_code
def yX3_statement : MethodName := ⟨RX3, "statement", "()I"⟩
abbrev mX3_statement : ch_M := (yX3_statement, cX3_statement, 4, (some .int), [])
theorem can_X3_statement : ch_can yX3_statement 0 = true := by decide +kernel
abbrev cX3_isNameAhead : ByteArray := prog_14_method_37_code
def yX3_isNameAhead : MethodName := ⟨RX3, "isNameAhead", "()Z"⟩
abbrev mX3_isNameAhead : ch_M := (yX3_isNameAhead, cX3_isNameAhead, 8, (some .boolean), [])
theorem can_X3_isNameAhead : ch_can yX3_isNameAhead 0 = true := by decide +kernel
abbrev cX3_begun : ByteArray := prog_14_method_32_code
def yX3_begun : MethodName := ⟨RX3, "begun", "(I)I"⟩
abbrev mX3_begun : ch_M := (yX3_begun, cX3_begun, 3, (some .int), [])
theorem can_X3_begun : ch_can yX3_begun 1 = true := by decide +kernel
abbrev cX3_expression : ByteArray := prog_14_method_21_code
def yX3_expression : MethodName := ⟨RX3, "expression", "()I"⟩
abbrev mX3_expression : ch_M := (yX3_expression, cX3_expression, 3, (some .int), [])
theorem can_X3_expression : ch_can yX3_expression 0 = true := by decide +kernel
abbrev cX3_both : ByteArray := prog_14_method_22_code
def yX3_both : MethodName := ⟨RX3, "both", "()I"⟩
abbrev mX3_both : ch_M := (yX3_both, cX3_both, 3, (some .int), [])
theorem can_X3_both : ch_can yX3_both 0 = true := by decide +kernel
abbrev cX3_equal : ByteArray := prog_14_method_24_code
def yX3_equal : MethodName := ⟨RX3, "equal", "()I"⟩
abbrev mX3_equal : ch_M := (yX3_equal, cX3_equal, 2, (some .int), [])
theorem can_X3_equal : ch_can yX3_equal 0 = true := by decide +kernel
abbrev cX3_related : ByteArray := prog_14_method_25_code
def yX3_related : MethodName := ⟨RX3, "related", "()I"⟩
abbrev mX3_related : ch_M := (yX3_related, cX3_related, 3, (some .int), [])
theorem can_X3_related : ch_can yX3_related 0 = true := by decide +kernel
abbrev cX3_sum : ByteArray := prog_14_method_26_code
def yX3_sum : MethodName := ⟨RX3, "sum", "()I"⟩
abbrev mX3_sum : ch_M := (yX3_sum, cX3_sum, 2, (some .int), [])
theorem can_X3_sum : ch_can yX3_sum 0 = true := by decide +kernel
abbrev cX3_product : ByteArray := prog_14_method_27_code
def yX3_product : MethodName := ⟨RX3, "product", "()I"⟩
abbrev mX3_product : ch_M := (yX3_product, cX3_product, 2, (some .int), [])
theorem can_X3_product : ch_can yX3_product 0 = true := by decide +kernel
abbrev cX3_single : ByteArray := prog_14_method_28_code
def yX3_single : MethodName := ⟨RX3, "single", "()I"⟩
abbrev mX3_single : ch_M := (yX3_single, cX3_single, 3, (some .int), [])
theorem can_X3_single : ch_can yX3_single 0 = true := by decide +kernel
abbrev cX3_chain : ByteArray := prog_14_method_29_code
def yX3_chain : MethodName := ⟨RX3, "chain", "()I"⟩
abbrev mX3_chain : ch_M := (yX3_chain, cX3_chain, 4, (some .int), [])
theorem can_X3_chain : ch_can yX3_chain 0 = true := by decide +kernel
abbrev cX3_first : ByteArray := prog_14_method_31_code
def yX3_first : MethodName := ⟨RX3, "first", "()I"⟩
abbrev mX3_first : ch_M := (yX3_first, cX3_first, 3, (some .int), [])
theorem can_X3_first : ch_can yX3_first 0 = true := by decide +kernel
abbrev cX3_node : ByteArray := prog_14_method_20_code
def yX3_node : MethodName := ⟨RX3, "node", "(IIII)I"⟩
abbrev mX3_node : ch_M := (yX3_node, cX3_node, 5, (some .int), [])
theorem can_X3_node : ch_can yX3_node 4 = true := by decide +kernel
abbrev cX3_called : ByteArray := prog_14_method_30_code
def yX3_called : MethodName := ⟨RX3, "called", "(III)I"⟩
abbrev mX3_called : ch_M := (yX3_called, cX3_called, 9, (some .int), [])
theorem can_X3_called : ch_can yX3_called 3 = true := by decide +kernel
abbrev cX3_signed : ByteArray := prog_14_method_23_code
def yX3_signed : MethodName := ⟨RX3, "signed", "(I)I"⟩
abbrev mX3_signed : ch_M := (yX3_signed, cX3_signed, 4, (some .int), [])
theorem can_X3_signed : ch_can yX3_signed 1 = true := by decide +kernel
abbrev cX3_inParentheses : ByteArray := prog_14_method_36_code
def yX3_inParentheses : MethodName := ⟨RX3, "inParentheses", "()I"⟩
abbrev mX3_inParentheses : ch_M := (yX3_inParentheses, cX3_inParentheses, 2, (some .int), [])
theorem can_X3_inParentheses : ch_can yX3_inParentheses 0 = true := by decide +kernel
abbrev cX3_placed : ByteArray := prog_14_method_39_code
def yX3_placed : MethodName := ⟨RX3, "placed", "()I"⟩
abbrev mX3_placed : ch_M := (yX3_placed, cX3_placed, 4, (some .int), [])
theorem can_X3_placed : ch_can yX3_placed 0 = true := by decide +kernel
abbrev cX3_checkClasses : ByteArray := prog_14_method_48_code
def yX3_checkClasses : MethodName := ⟨RX3, "checkClasses", "()V"⟩
abbrev mX3_checkClasses : ch_M := (yX3_checkClasses, cX3_checkClasses, 4, none, [])
theorem can_X3_checkClasses : ch_can yX3_checkClasses 0 = true := by decide +kernel
abbrev cX3_classOf : ByteArray := prog_14_method_43_code
def yX3_classOf : MethodName := ⟨RX3, "classOf", "(I)I"⟩
abbrev mX3_classOf : ch_M := (yX3_classOf, cX3_classOf, 3, (some .int), [])
theorem can_X3_classOf : ch_can yX3_classOf 1 = true := by decide +kernel
abbrev cX3_isBad : ByteArray := prog_14_method_42_code
def yX3_isBad : MethodName := ⟨RX3, "isBad", "(I)V"⟩
abbrev mX3_isBad : ch_M := (yX3_isBad, cX3_isBad, 2, none, [])
theorem can_X3_isBad : ch_can yX3_isBad 1 = true := by decide +kernel
abbrev cX3_checkMembers : ByteArray := prog_14_method_51_code
def yX3_checkMembers : MethodName := ⟨RX3, "checkMembers", "()V"⟩
abbrev mX3_checkMembers : ch_M := (yX3_checkMembers, cX3_checkMembers, 4, none, [])
theorem can_X3_checkMembers : ch_can yX3_checkMembers 0 = true := by decide +kernel
abbrev cX3_meant : ByteArray := prog_14_method_44_code
def yX3_meant : MethodName := ⟨RX3, "meant", "(I)I"⟩
abbrev mX3_meant : ch_M := (yX3_meant, cX3_meant, 3, (some .int), [])
theorem can_X3_meant : ch_can yX3_meant 1 = true := by decide +kernel
abbrev cX3_isRightMethod : ByteArray := prog_14_method_50_code
def yX3_isRightMethod : MethodName := ⟨RX3, "isRightMethod", "(II)Z"⟩
abbrev mX3_isRightMethod : ch_M := (yX3_isRightMethod, cX3_isRightMethod, 7, (some .boolean), [])
theorem can_X3_isRightMethod : ch_can yX3_isRightMethod 2 = true := by decide +kernel
abbrev cX3_memberOf : ByteArray := prog_14_method_47_code
def yX3_memberOf : MethodName := ⟨RX3, "memberOf", "(IIZ)I"⟩
abbrev mX3_memberOf : ch_M := (yX3_memberOf, cX3_memberOf, 6, (some .int), [])
theorem can_X3_memberOf : ch_can yX3_memberOf 3 = true := by decide +kernel
abbrev cX3_isField : ByteArray := prog_14_method_49_code
def yX3_isField : MethodName := ⟨RX3, "isField", "(II)Z"⟩
abbrev mX3_isField : ch_M := (yX3_isField, cX3_isField, 4, (some .boolean), [])
theorem can_X3_isField : ch_can yX3_isField 2 = true := by decide +kernel
abbrev cX3_setSlots : ByteArray := prog_14_method_52_code
def yX3_setSlots : MethodName := ⟨RX3, "setSlots", "(I)I"⟩
abbrev mX3_setSlots : ch_M := (yX3_setSlots, cX3_setSlots, 5, (some .int), [])
theorem can_X3_setSlots : ch_can yX3_setSlots 1 = true := by decide +kernel
abbrev cX3_checkMethod : ByteArray := prog_14_method_56_code
def yX3_checkMethod : MethodName := ⟨RX3, "checkMethod", "(II)V"⟩
abbrev mX3_checkMethod : ch_M := (yX3_checkMethod, cX3_checkMethod, 4, none, [])
theorem can_X3_checkMethod : ch_can yX3_checkMethod 2 = true := by decide +kernel
abbrev cX3_addVariable : ByteArray := prog_14_method_55_code
def yX3_addVariable : MethodName := ⟨RX3, "addVariable", "(IIZ)V"⟩
abbrev mX3_addVariable : ch_M := (yX3_addVariable, cX3_addVariable, 4, none, [])
theorem can_X3_addVariable : ch_can yX3_addVariable 3 = true := by decide +kernel
abbrev cX3_checkBlock : ByteArray := prog_14_method_57_code
def yX3_checkBlock : MethodName := ⟨RX3, "checkBlock", "(II)V"⟩
abbrev mX3_checkBlock : ch_M := (yX3_checkBlock, cX3_checkBlock, 5, none, [])
theorem can_X3_checkBlock : ch_can yX3_checkBlock 2 = true := by decide +kernel
abbrev cX3_checkOne : ByteArray := prog_14_method_63_code
def yX3_checkOne : MethodName := ⟨RX3, "checkOne", "(II)V"⟩
abbrev mX3_checkOne : ch_M := (yX3_checkOne, cX3_checkOne, 8, none, [])
theorem can_X3_checkOne : ch_can yX3_checkOne 2 = true := by decide +kernel
abbrev cX3_checkNodes : ByteArray := prog_14_method_68_code
def yX3_checkNodes : MethodName := ⟨RX3, "checkNodes", "(III)Z"⟩
abbrev mX3_checkNodes : ch_M := (yX3_checkNodes, cX3_checkNodes, 6, (some .boolean), [])
theorem can_X3_checkNodes : ch_can yX3_checkNodes 3 = true := by decide +kernel
abbrev cX3_checkNode : ByteArray := prog_14_method_69_code
def yX3_checkNode : MethodName := ⟨RX3, "checkNode", "(II)Z"⟩
abbrev mX3_checkNode : ch_M := (yX3_checkNode, cX3_checkNode, 8, (some .boolean), [])
theorem can_X3_checkNode : ch_can yX3_checkNode 2 = true := by decide +kernel
abbrev cX3_named : ByteArray := prog_14_method_73_code
def yX3_named : MethodName := ⟨RX3, "named", "(II)I"⟩
abbrev mX3_named : ch_M := (yX3_named, cX3_named, 5, (some .int), [])
theorem can_X3_named : ch_can yX3_named 2 = true := by decide +kernel
abbrev cX3_variableOf : ByteArray := prog_14_method_54_code
def yX3_variableOf : MethodName := ⟨RX3, "variableOf", "(I)I"⟩
abbrev mX3_variableOf : ch_M := (yX3_variableOf, cX3_variableOf, 3, (some .int), [])
theorem can_X3_variableOf : ch_can yX3_variableOf 1 = true := by decide +kernel
abbrev cX3_meantClass : ByteArray := prog_14_method_70_code
def yX3_meantClass : MethodName := ⟨RX3, "meantClass", "(I)I"⟩
abbrev mX3_meantClass : ch_M := (yX3_meantClass, cX3_meantClass, 3, (some .int), [])
theorem can_X3_meantClass : ch_can yX3_meantClass 1 = true := by decide +kernel
abbrev cX3_field : ByteArray := prog_14_method_74_code
def yX3_field : MethodName := ⟨RX3, "field", "(II)I"⟩
abbrev mX3_field : ch_M := (yX3_field, cX3_field, 5, (some .int), [])
theorem can_X3_field : ch_can yX3_field 2 = true := by decide +kernel
abbrev cX3_call : ByteArray := prog_14_method_75_code
def yX3_call : MethodName := ⟨RX3, "call", "(II)I"⟩
abbrev mX3_call : ch_M := (yX3_call, cX3_call, 8, (some .int), [])
theorem can_X3_call : ch_can yX3_call 2 = true := by decide +kernel
abbrev cX3_isSub : ByteArray := prog_14_method_46_code
def yX3_isSub : MethodName := ⟨RX3, "isSub", "(II)Z"⟩
abbrev mX3_isSub : ch_M := (yX3_isSub, cX3_isSub, 3, (some .boolean), [])
theorem can_X3_isSub : ch_can yX3_isSub 2 = true := by decide +kernel
abbrev cX3_isUnder : ByteArray := prog_14_method_45_code
def yX3_isUnder : MethodName := ⟨RX3, "isUnder", "(II)Z"⟩
abbrev mX3_isUnder : ch_M := (yX3_isUnder, cX3_isUnder, 4, (some .boolean), [])
theorem can_X3_isUnder : ch_can yX3_isUnder 2 = true := by decide +kernel
abbrev cX3_compared : ByteArray := prog_14_method_72_code
def yX3_compared : MethodName := ⟨RX3, "compared", "(III)I"⟩
abbrev mX3_compared : ch_M := (yX3_compared, cX3_compared, 5, (some .int), [])
theorem can_X3_compared : ch_can yX3_compared 3 = true := by decide +kernel
abbrev cX3_isObject : ByteArray := prog_14_method_71_code
def yX3_isObject : MethodName := ⟨RX3, "isObject", "(I)Z"⟩
abbrev mX3_isObject : ch_M := (yX3_isObject, cX3_isObject, 1, (some .boolean), [])
theorem can_X3_isObject : ch_can yX3_isObject 1 = true := by decide +kernel
abbrev cX3_typeOfValue : ByteArray := prog_14_method_61_code
def yX3_typeOfValue : MethodName := ⟨RX3, "typeOfValue", "(I)I"⟩
abbrev mX3_typeOfValue : ch_M := (yX3_typeOfValue, cX3_typeOfValue, 2, (some .int), [])
theorem can_X3_typeOfValue : ch_can yX3_typeOfValue 1 = true := by decide +kernel
abbrev cX3_isPlain : ByteArray := prog_14_method_62_code
def yX3_isPlain : MethodName := ⟨RX3, "isPlain", "(I)Z"⟩
abbrev mX3_isPlain : ch_M := (yX3_isPlain, cX3_isPlain, 2, (some .boolean), [])
theorem can_X3_isPlain : ch_can yX3_isPlain 1 = true := by decide +kernel
abbrev cX3_checkPlace : ByteArray := prog_14_method_64_code
def yX3_checkPlace : MethodName := ⟨RX3, "checkPlace", "(II)Z"⟩
abbrev mX3_checkPlace : ch_M := (yX3_checkPlace, cX3_checkPlace, 4, (some .boolean), [])
theorem can_X3_checkPlace : ch_can yX3_checkPlace 2 = true := by decide +kernel
abbrev cX3_checkIf : ByteArray := prog_14_method_65_code
def yX3_checkIf : MethodName := ⟨RX3, "checkIf", "(II)V"⟩
abbrev mX3_checkIf : ch_M := (yX3_checkIf, cX3_checkIf, 5, none, [])
theorem can_X3_checkIf : ch_can yX3_checkIf 2 = true := by decide +kernel
abbrev cX3_keepSets : ByteArray := prog_14_method_58_code
def yX3_keepSets : MethodName := ⟨RX3, "keepSets", "(I)V"⟩
abbrev mX3_keepSets : ch_M := (yX3_keepSets, cX3_keepSets, 3, none, [])
theorem can_X3_keepSets : ch_can yX3_keepSets 1 = true := by decide +kernel
abbrev cX3_backSets : ByteArray := prog_14_method_59_code
def yX3_backSets : MethodName := ⟨RX3, "backSets", "(I)V"⟩
abbrev mX3_backSets : ch_M := (yX3_backSets, cX3_backSets, 3, none, [])
theorem can_X3_backSets : ch_can yX3_backSets 1 = true := by decide +kernel
abbrev cX3_joinSets : ByteArray := prog_14_method_60_code
def yX3_joinSets : MethodName := ⟨RX3, "joinSets", "(IZ)V"⟩
abbrev mX3_joinSets : ch_M := (yX3_joinSets, cX3_joinSets, 4, none, [])
theorem can_X3_joinSets : ch_can yX3_joinSets 2 = true := by decide +kernel
abbrev cX3_checkWhile : ByteArray := prog_14_method_66_code
def yX3_checkWhile : MethodName := ⟨RX3, "checkWhile", "(II)V"⟩
abbrev mX3_checkWhile : ch_M := (yX3_checkWhile, cX3_checkWhile, 4, none, [])
theorem can_X3_checkWhile : ch_can yX3_checkWhile 2 = true := by decide +kernel
abbrev cX3_checkTry : ByteArray := prog_14_method_67_code
def yX3_checkTry : MethodName := ⟨RX3, "checkTry", "(II)V"⟩
abbrev mX3_checkTry : ch_M := (yX3_checkTry, cX3_checkTry, 6, none, [])
theorem can_X3_checkTry : ch_can yX3_checkTry 2 = true := by decide +kernel
abbrev cX3_feed : ByteArray := prog_14_method_105_code
def yX3_feed : MethodName := ⟨RX3, "feed", "(IIIII)I"⟩
abbrev mX3_feed : ch_M := (yX3_feed, cX3_feed, 8, (some .int), [])
theorem can_X3_feed : ch_can yX3_feed 5 = true := by decide +kernel
abbrev cX3_end : ByteArray := prog_14_method_106_code
def yX3_end : MethodName := ⟨RX3, "end", "(I)I"⟩
abbrev mX3_end : ch_M := (yX3_end, cX3_end, 2, (some .int), [])
theorem can_X3_end : ch_can yX3_end 1 = true := by decide +kernel
abbrev cX3_heap : ByteArray := prog_14_method_107_code
def yX3_heap : MethodName := ⟨RX3, "heap", "(I)I"⟩
abbrev mX3_heap : ch_M := (yX3_heap, cX3_heap, 2, (some .int), [])
theorem can_X3_heap : ch_can yX3_heap 1 = true := by decide +kernel
abbrev cX3_input : ByteArray := prog_14_method_108_code
def yX3_input : MethodName := ⟨RX3, "input", "(III)I"⟩
abbrev mX3_input : ch_M := (yX3_input, cX3_input, 4, (some .int), [])
theorem can_X3_input : ch_can yX3_input 3 = true := by decide +kernel
abbrev cX3_start : ByteArray := prog_14_method_109_code
def yX3_start : MethodName := ⟨RX3, "start", "()I"⟩
abbrev mX3_start : ch_M := (yX3_start, cX3_start, 3, (some .int), [])
theorem can_X3_start : ch_can yX3_start 0 = true := by decide +kernel
abbrev cX3_object : ByteArray := prog_14_method_81_code
def yX3_object : MethodName := ⟨RX3, "object", "(II)I"⟩
abbrev mX3_object : ch_M := (yX3_object, cX3_object, 6, (some .int), [])
theorem can_X3_object : ch_can yX3_object 2 = true := by decide +kernel
abbrev cX3_begin : ByteArray := prog_14_method_99_code
def yX3_begin : MethodName := ⟨RX3, "begin", "(IIII)V"⟩
abbrev mX3_begin : ch_M := (yX3_begin, cX3_begin, 7, none, [])
theorem can_X3_begin : ch_can yX3_begin 4 = true := by decide +kernel
abbrev cX3_setLocal : ByteArray := prog_14_method_87_code
def yX3_setLocal : MethodName := ⟨RX3, "setLocal", "(IIIZ)V"⟩
abbrev mX3_setLocal : ch_M := (yX3_setLocal, cX3_setLocal, 5, none, [])
theorem can_X3_setLocal : ch_can yX3_setLocal 4 = true := by decide +kernel
abbrev cX3_todo : ByteArray := prog_14_method_83_code
def yX3_todo : MethodName := ⟨RX3, "todo", "(II)V"⟩
abbrev mX3_todo : ch_M := (yX3_todo, cX3_todo, 3, none, [])
theorem can_X3_todo : ch_can yX3_todo 2 = true := by decide +kernel
abbrev cX3_settle : ByteArray := prog_14_method_88_code
def yX3_settle : MethodName := ⟨RX3, "settle", "()V"⟩
abbrev mX3_settle : ch_M := (yX3_settle, cX3_settle, 2, none, [])
theorem can_X3_settle : ch_can yX3_settle 0 = true := by decide +kernel
abbrev cX3_isStep : ByteArray := prog_14_method_90_code
def yX3_isStep : MethodName := ⟨RX3, "isStep", "()Z"⟩
abbrev mX3_isStep : ch_M := (yX3_isStep, cX3_isStep, 2, (some .boolean), [])
theorem can_X3_isStep : ch_can yX3_isStep 0 = true := by decide +kernel
abbrev cX3_isLeaf : ByteArray := prog_14_method_89_code
def yX3_isLeaf : MethodName := ⟨RX3, "isLeaf", "(I)Z"⟩
abbrev mX3_isLeaf : ch_M := (yX3_isLeaf, cX3_isLeaf, 2, (some .boolean), [])
theorem can_X3_isLeaf : ch_can yX3_isLeaf 1 = true := by decide +kernel
abbrev cX3_unfold : ByteArray := prog_14_method_91_code
def yX3_unfold : MethodName := ⟨RX3, "unfold", "(I)V"⟩
abbrev mX3_unfold : ch_M := (yX3_unfold, cX3_unfold, 4, none, [])
theorem can_X3_unfold : ch_can yX3_unfold 1 = true := by decide +kernel
abbrev cX3_begins : ByteArray := prog_14_method_92_code
def yX3_begins : MethodName := ⟨RX3, "begins", "(I)V"⟩
abbrev mX3_begins : ch_M := (yX3_begins, cX3_begins, 4, none, [])
theorem can_X3_begins : ch_can yX3_begins 1 = true := by decide +kernel
abbrev cX3_step : ByteArray := prog_14_method_110_code
def yX3_step : MethodName := ⟨RX3, "step", "(I)I"⟩
abbrev mX3_step : ch_M := (yX3_step, cX3_step, 3, (some .int), [])
theorem can_X3_step : ch_can yX3_step 1 = true := by decide +kernel
abbrev cX3_stepOnce : ByteArray := prog_14_method_104_code
def yX3_stepOnce : MethodName := ⟨RX3, "stepOnce", "()V"⟩
abbrev mX3_stepOnce : ch_M := (yX3_stepOnce, cX3_stepOnce, 2, none, [])
theorem can_X3_stepOnce : ch_can yX3_stepOnce 0 = true := by decide +kernel
abbrev cX3_leaf : ByteArray := prog_14_method_93_code
def yX3_leaf : MethodName := ⟨RX3, "leaf", "(I)V"⟩
abbrev mX3_leaf : ch_M := (yX3_leaf, cX3_leaf, 4, none, [])
theorem can_X3_leaf : ch_can yX3_leaf 1 = true := by decide +kernel
abbrev cX3_push : ByteArray := prog_14_method_82_code
def yX3_push : MethodName := ⟨RX3, "push", "(IZ)V"⟩
abbrev mX3_push : ch_M := (yX3_push, cX3_push, 3, none, [])
theorem can_X3_push : ch_can yX3_push 2 = true := by decide +kernel
abbrev cX3_nextInput : ByteArray := prog_14_method_94_code
def yX3_nextInput : MethodName := ⟨RX3, "nextInput", "()I"⟩
abbrev mX3_nextInput : ch_M := (yX3_nextInput, cX3_nextInput, 3, (some .int), [])
theorem can_X3_nextInput : ch_can yX3_nextInput 0 = true := by decide +kernel
abbrev cX3_hasRoom : ByteArray := prog_14_method_80_code
def yX3_hasRoom : MethodName := ⟨RX3, "hasRoom", "(I)Z"⟩
abbrev mX3_hasRoom : ch_M := (yX3_hasRoom, cX3_hasRoom, 2, (some .boolean), [])
theorem can_X3_hasRoom : ch_can yX3_hasRoom 1 = true := by decide +kernel
abbrev cX3_marked : ByteArray := prog_14_method_77_code
def yX3_marked : MethodName := ⟨RX3, "marked", "()I"⟩
abbrev mX3_marked : ch_M := (yX3_marked, cX3_marked, 4, (some .int), [])
theorem can_X3_marked : ch_can yX3_marked 0 = true := by decide +kernel
abbrev cX3_reach : ByteArray := prog_14_method_76_code
def yX3_reach : MethodName := ⟨RX3, "reach", "(I)V"⟩
abbrev mX3_reach : ch_M := (yX3_reach, cX3_reach, 2, none, [])
theorem can_X3_reach : ch_can yX3_reach 1 = true := by decide +kernel
abbrev cX3_sweep : ByteArray := prog_14_method_79_code
def yX3_sweep : MethodName := ⟨RX3, "sweep", "()V"⟩
abbrev mX3_sweep : ch_M := (yX3_sweep, cX3_sweep, 8, none, [])
theorem can_X3_sweep : ch_can yX3_sweep 0 = true := by decide +kernel
abbrev cX3_moved : ByteArray := prog_14_method_78_code
def yX3_moved : MethodName := ⟨RX3, "moved", "(I)I"⟩
abbrev mX3_moved : ch_M := (yX3_moved, cX3_moved, 2, (some .int), [])
theorem can_X3_moved : ch_can yX3_moved 1 = true := by decide +kernel
abbrev cX3_ends : ByteArray := prog_14_method_84_code
def yX3_ends : MethodName := ⟨RX3, "ends", "(I)V"⟩
abbrev mX3_ends : ch_M := (yX3_ends, cX3_ends, 2, none, [])
theorem can_X3_ends : ch_can yX3_ends 1 = true := by decide +kernel
abbrev cX3_work : ByteArray := prog_14_method_95_code
def yX3_work : MethodName := ⟨RX3, "work", "(I)V"⟩
abbrev mX3_work : ch_M := (yX3_work, cX3_work, 5, none, [])
theorem can_X3_work : ch_can yX3_work 1 = true := by decide +kernel
abbrev cX3_faults : ByteArray := prog_14_method_86_code
def yX3_faults : MethodName := ⟨RX3, "faults", "(I)V"⟩
abbrev mX3_faults : ch_M := (yX3_faults, cX3_faults, 2, none, [])
theorem can_X3_faults : ch_can yX3_faults 1 = true := by decide +kernel
abbrev cX3_throwsObject : ByteArray := prog_14_method_85_code
def yX3_throwsObject : MethodName := ⟨RX3, "throwsObject", "(I)V"⟩
abbrev mX3_throwsObject : ch_M := (yX3_throwsObject, cX3_throwsObject, 5, none, [])
theorem can_X3_throwsObject : ch_can yX3_throwsObject 1 = true := by decide +kernel
abbrev cX3_isPlace : ByteArray := prog_14_method_96_code
def yX3_isPlace : MethodName := ⟨RX3, "isPlace", "(II)Z"⟩
abbrev mX3_isPlace : ch_M := (yX3_isPlace, cX3_isPlace, 3, (some .boolean), [])
theorem can_X3_isPlace : ch_can yX3_isPlace 2 = true := by decide +kernel
abbrev cX3_calls : ByteArray := prog_14_method_98_code
def yX3_calls : MethodName := ⟨RX3, "calls", "(I)V"⟩
abbrev mX3_calls : ch_M := (yX3_calls, cX3_calls, 7, none, [])
theorem can_X3_calls : ch_can yX3_calls 1 = true := by decide +kernel
abbrev cX3_worked : ByteArray := prog_14_method_97_code
def yX3_worked : MethodName := ⟨RX3, "worked", "(III)I"⟩
abbrev mX3_worked : ch_M := (yX3_worked, cX3_worked, 3, (some .int), [])
theorem can_X3_worked : ch_can yX3_worked 3 = true := by decide +kernel
abbrev cX3_half : ByteArray := prog_14_method_100_code
def yX3_half : MethodName := ⟨RX3, "half", "(I)V"⟩
abbrev mX3_half : ch_M := (yX3_half, cX3_half, 3, none, [])
theorem can_X3_half : ch_can yX3_half 1 = true := by decide +kernel
abbrev cX3_done : ByteArray := prog_14_method_101_code
def yX3_done : MethodName := ⟨RX3, "done", "(I)V"⟩
abbrev mX3_done : ch_M := (yX3_done, cX3_done, 4, none, [])
theorem can_X3_done : ch_can yX3_done 1 = true := by decide +kernel
abbrev cX3_returns : ByteArray := prog_14_method_102_code
def yX3_returns : MethodName := ⟨RX3, "returns", "(I)V"⟩
abbrev mX3_returns : ch_M := (yX3_returns, cX3_returns, 5, none, [])
theorem can_X3_returns : ch_can yX3_returns 1 = true := by decide +kernel
abbrev cX3_sets : ByteArray := prog_14_method_103_code
def yX3_sets : MethodName := ⟨RX3, "sets", "(I)V"⟩
abbrev mX3_sets : ch_M := (yX3_sets, cX3_sets, 8, none, [])
theorem can_X3_sets : ch_can yX3_sets 1 = true := by decide +kernel
abbrev cX3_result : ByteArray := prog_14_method_111_code
def yX3_result : MethodName := ⟨RX3, "result", "()I"⟩
abbrev mX3_result : ch_M := (yX3_result, cX3_result, 1, (some .int), [])
theorem can_X3_result : ch_can yX3_result 0 = true := by decide +kernel
abbrev cX3_output : ByteArray := prog_14_method_112_code
def yX3_output : MethodName := ⟨RX3, "output", "(I)I"⟩
abbrev mX3_output : ch_M := (yX3_output, cX3_output, 2, (some .int), [])
theorem can_X3_output : ch_can yX3_output 1 = true := by decide +kernel
abbrev cX3_count : ByteArray := prog_14_method_113_code
def yX3_count : MethodName := ⟨RX3, "count", "(I)I"⟩
abbrev mX3_count : ch_M := (yX3_count, cX3_count, 2, (some .int), [])
theorem can_X3_count : ch_can yX3_count 1 = true := by decide +kernel
abbrev cX4_init : ByteArray := prog_7_method_1_code
def yX4_init : MethodName := ⟨RX4, "<init>", "([BI)V"⟩
abbrev mX4_init : ch_M := (yX4_init, cX4_init, 3, none, [])
theorem can_X4_init : ch_can yX4_init 2 = true := by decide +kernel
abbrev cX4_program : ByteArray := prog_7_method_17_code
def yX4_program : MethodName := ⟨RX4, "program", "()V"⟩
abbrev mX4_program : ch_M := (yX4_program, cX4_program, 2, none, [])
theorem can_X4_program : ch_can yX4_program 0 = true := by decide +kernel
abbrev cX4_next : ByteArray := prog_7_method_5_code
def yX4_next : MethodName := ⟨RX4, "next", "()V"⟩
abbrev mX4_next : ch_M := (yX4_next, cX4_next, 3, none, [])
theorem can_X4_next : ch_can yX4_next 0 = true := by decide +kernel
abbrev cX4_isLetter : ByteArray := prog_7_method_3_code
def yX4_isLetter : MethodName := ⟨RX4, "isLetter", "(I)Z"⟩
abbrev mX4_isLetter : ch_M := (yX4_isLetter, cX4_isLetter, 1, (some .boolean), [])
theorem can_X4_isLetter : ch_can yX4_isLetter 1 = true := by decide +kernel
abbrev cX4_isDigit : ByteArray := prog_7_method_4_code
def yX4_isDigit : MethodName := ⟨RX4, "isDigit", "(I)Z"⟩
abbrev mX4_isDigit : ch_M := (yX4_isDigit, cX4_isDigit, 1, (some .boolean), [])
theorem can_X4_isDigit : ch_can yX4_isDigit 1 = true := by decide +kernel
abbrev cX4_is : ByteArray := prog_7_method_7_code
def yX4_is : MethodName := ⟨RX4, "is", "(Ljava/lang/String;)Z"⟩
abbrev mX4_is : ch_M := (yX4_is, cX4_is, 4, (some .boolean), [])
theorem can_X4_is : ch_can yX4_is 1 = true := by decide +kernel
abbrev cX4_must : ByteArray := prog_7_method_2_code
def yX4_must : MethodName := ⟨RX4, "must", "(Z)V"⟩
abbrev mX4_must : ch_M := (yX4_must, cX4_must, 2, none, [])
theorem can_X4_must : ch_can yX4_must 1 = true := by decide +kernel
abbrev cX4_sign : ByteArray := prog_7_method_6_code
def yX4_sign : MethodName := ⟨RX4, "sign", "(II)V"⟩
abbrev mX4_sign : ch_M := (yX4_sign, cX4_sign, 5, none, [])
theorem can_X4_sign : ch_can yX4_sign 2 = true := by decide +kernel
abbrev cX4_want : ByteArray := prog_7_method_9_code
def yX4_want : MethodName := ⟨RX4, "want", "(Ljava/lang/String;)V"⟩
abbrev mX4_want : ch_M := (yX4_want, cX4_want, 2, none, [])
theorem can_X4_want : ch_can yX4_want 1 = true := by decide +kernel
abbrev cX4_isThe : ByteArray := prog_7_method_8_code
def yX4_isThe : MethodName := ⟨RX4, "isThe", "(Ljava/lang/String;)Z"⟩
abbrev mX4_isThe : ch_M := (yX4_isThe, cX4_isThe, 2, (some .boolean), [])
theorem can_X4_isThe : ch_can yX4_isThe 1 = true := by decide +kernel
abbrev cX4_name : ByteArray := prog_7_method_15_code
def yX4_name : MethodName := ⟨RX4, "name", "()I"⟩
abbrev mX4_name : ch_M := (yX4_name, cX4_name, 1, (some .int), [])
theorem can_X4_name : ch_can yX4_name 0 = true := by decide +kernel
abbrev cX4_numberOf : ByteArray := prog_7_method_13_code
def yX4_numberOf : MethodName := ⟨RX4, "numberOf", "([BII)I"⟩
abbrev mX4_numberOf : ch_M := (yX4_numberOf, cX4_numberOf, 6, (some .int), [])
theorem can_X4_numberOf : ch_can yX4_numberOf 3 = true := by decide +kernel
abbrev cX4_isAt : ByteArray := prog_7_method_14_code
def yX4_isAt : MethodName := ⟨RX4, "isAt", "([B[BII)Z"⟩
abbrev mX4_isAt : ch_M := (yX4_isAt, cX4_isAt, 6, (some .boolean), [])
theorem can_X4_isAt : ch_can yX4_isAt 4 = true := by decide +kernel
abbrev cX4_nextName : ByteArray := prog_7_method_16_code
def yX4_nextName : MethodName := ⟨RX4, "nextName", "()I"⟩
abbrev mX4_nextName : ch_M := (yX4_nextName, cX4_nextName, 2, (some .int), [])
theorem can_X4_nextName : ch_can yX4_nextName 0 = true := by decide +kernel
abbrev cX4_opens : ByteArray := prog_7_method_10_code
def yX4_opens : MethodName := ⟨RX4, "opens", "(Ljava/lang/String;)V"⟩
abbrev mX4_opens : ch_M := (yX4_opens, cX4_opens, 2, none, [])
theorem can_X4_opens : ch_can yX4_opens 1 = true := by decide +kernel
abbrev cX4_member : ByteArray := prog_7_method_20_code
def yX4_member : MethodName := ⟨RX4, "member", "()LClassHouse$Member;"⟩
abbrev mX4_member : ch_M := (yX4_member, cX4_member, 6, (some (.object "ClassHouse$Member")), [])
theorem can_X4_member : ch_can yX4_member 0 = true := by decide +kernel
abbrev cX4_type : ByteArray := prog_7_method_19_code
def yX4_type : MethodName := ⟨RX4, "type", "()I"⟩
abbrev mX4_type : ch_M := (yX4_type, cX4_type, 2, (some .int), [])
theorem can_X4_type : ch_can yX4_type 0 = true := by decide +kernel
abbrev cX4_isType : ByteArray := prog_7_method_18_code
def yX4_isType : MethodName := ⟨RX4, "isType", "()Z"⟩
abbrev mX4_isType : ch_M := (yX4_isType, cX4_isType, 1, (some .boolean), [])
theorem can_X4_isType : ch_can yX4_isType 0 = true := by decide +kernel
abbrev cX4_closes : ByteArray := prog_7_method_11_code
def yX4_closes : MethodName := ⟨RX4, "closes", "(Ljava/lang/String;)V"⟩
abbrev mX4_closes : ch_M := (yX4_closes, cX4_closes, 2, none, [])
theorem can_X4_closes : ch_can yX4_closes 1 = true := by decide +kernel
abbrev cX4_block : ByteArray := prog_7_method_21_code
def yX4_block : MethodName := ⟨RX4, "block", "()[LClassHouse$Statement;"⟩
abbrev mX4_block : ch_M := (yX4_block, cX4_block, 4, (some (.array (.object "ClassHouse$Statement"))), [])
theorem can_X4_block : ch_can yX4_block 0 = true := by decide +kernel
abbrev cX4_statement : ByteArray := prog_7_method_23_code
def yX4_statement : MethodName := ⟨RX4, "statement", "()LClassHouse$Statement;"⟩
abbrev mX4_statement : ch_M := (yX4_statement, cX4_statement, 4, (some (.object "ClassHouse$Statement")), [])
theorem can_X4_statement : ch_can yX4_statement 0 = true := by decide +kernel
abbrev cX4_isNameBehind : ByteArray := prog_7_method_22_code
def yX4_isNameBehind : MethodName := ⟨RX4, "isNameBehind", "()Z"⟩
abbrev mX4_isNameBehind : ch_M := (yX4_isNameBehind, cX4_isNameBehind, 6, (some .boolean), [])
theorem can_X4_isNameBehind : ch_can yX4_isNameBehind 0 = true := by decide +kernel
abbrev cX4_told : ByteArray := prog_7_method_24_code
def yX4_told : MethodName := ⟨RX4, "told", "(I)LClassHouse$Statement;"⟩
abbrev mX4_told : ch_M := (yX4_told, cX4_told, 3, (some (.object "ClassHouse$Statement")), [])
theorem can_X4_told : ch_can yX4_told 1 = true := by decide +kernel
abbrev cX4_value : ByteArray := prog_7_method_28_code
def yX4_value : MethodName := ⟨RX4, "value", "()LClassHouse$Value;"⟩
abbrev mX4_value : ch_M := (yX4_value, cX4_value, 2, (some (.object "ClassHouse$Value")), [])
theorem can_X4_value : ch_can yX4_value 0 = true := by decide +kernel
abbrev cX4_anded : ByteArray := prog_7_method_29_code
def yX4_anded : MethodName := ⟨RX4, "anded", "()LClassHouse$Value;"⟩
abbrev mX4_anded : ch_M := (yX4_anded, cX4_anded, 2, (some (.object "ClassHouse$Value")), [])
theorem can_X4_anded : ch_can yX4_anded 0 = true := by decide +kernel
abbrev cX4_equaled : ByteArray := prog_7_method_30_code
def yX4_equaled : MethodName := ⟨RX4, "equaled", "()LClassHouse$Value;"⟩
abbrev mX4_equaled : ch_M := (yX4_equaled, cX4_equaled, 3, (some (.object "ClassHouse$Value")), [])
theorem can_X4_equaled : ch_can yX4_equaled 0 = true := by decide +kernel
abbrev cX4_related : ByteArray := prog_7_method_31_code
def yX4_related : MethodName := ⟨RX4, "related", "()LClassHouse$Value;"⟩
abbrev mX4_related : ch_M := (yX4_related, cX4_related, 3, (some (.object "ClassHouse$Value")), [])
theorem can_X4_related : ch_can yX4_related 0 = true := by decide +kernel
abbrev cX4_sum : ByteArray := prog_7_method_32_code
def yX4_sum : MethodName := ⟨RX4, "sum", "()LClassHouse$Value;"⟩
abbrev mX4_sum : ch_M := (yX4_sum, cX4_sum, 3, (some (.object "ClassHouse$Value")), [])
theorem can_X4_sum : ch_can yX4_sum 0 = true := by decide +kernel
abbrev cX4_product : ByteArray := prog_7_method_33_code
def yX4_product : MethodName := ⟨RX4, "product", "()LClassHouse$Value;"⟩
abbrev mX4_product : ch_M := (yX4_product, cX4_product, 3, (some (.object "ClassHouse$Value")), [])
theorem can_X4_product : ch_can yX4_product 0 = true := by decide +kernel
abbrev cX4_one : ByteArray := prog_7_method_34_code
def yX4_one : MethodName := ⟨RX4, "one", "()LClassHouse$Value;"⟩
abbrev mX4_one : ch_M := (yX4_one, cX4_one, 4, (some (.object "ClassHouse$Value")), [])
theorem can_X4_one : ch_can yX4_one 0 = true := by decide +kernel
abbrev cX4_first : ByteArray := prog_7_method_36_code
def yX4_first : MethodName := ⟨RX4, "first", "()LClassHouse$Value;"⟩
abbrev mX4_first : ch_M := (yX4_first, cX4_first, 3, (some (.object "ClassHouse$Value")), [])
theorem can_X4_first : ch_can yX4_first 0 = true := by decide +kernel
abbrev cX4_arguments : ByteArray := prog_7_method_35_code
def yX4_arguments : MethodName := ⟨RX4, "arguments", "()[LClassHouse$Value;"⟩
abbrev mX4_arguments : ch_M := (yX4_arguments, cX4_arguments, 4, (some (.array (.object "ClassHouse$Value"))), [])
theorem can_X4_arguments : ch_can yX4_arguments 0 = true := by decide +kernel
abbrev cX4_simple : ByteArray := prog_7_method_37_code
def yX4_simple : MethodName := ⟨RX4, "simple", "()LClassHouse$Value;"⟩
abbrev mX4_simple : ch_M := (yX4_simple, cX4_simple, 4, (some (.object "ClassHouse$Value")), [])
theorem can_X4_simple : ch_can yX4_simple 0 = true := by decide +kernel
abbrev cX4_joined : ByteArray := prog_7_method_27_code
def yX4_joined : MethodName := ⟨RX4, "joined", "(IILClassHouse$Value;LClassHouse$Value;)LClassHouse$Value;"⟩
abbrev mX4_joined : ch_M := (yX4_joined, cX4_joined, 5, (some (.object "ClassHouse$Value")), [])
theorem can_X4_joined : ch_can yX4_joined 4 = true := by decide +kernel
abbrev cX4_conditional : ByteArray := prog_7_method_25_code
def yX4_conditional : MethodName := ⟨RX4, "conditional", "(I)LClassHouse$Statement;"⟩
abbrev mX4_conditional : ch_M := (yX4_conditional, cX4_conditional, 3, (some (.object "ClassHouse$Statement")), [])
theorem can_X4_conditional : ch_can yX4_conditional 1 = true := by decide +kernel
abbrev cX4_tried : ByteArray := prog_7_method_26_code
def yX4_tried : MethodName := ⟨RX4, "tried", "(I)LClassHouse$Statement;"⟩
abbrev mX4_tried : ch_M := (yX4_tried, cX4_tried, 3, (some (.object "ClassHouse$Statement")), [])
theorem can_X4_tried : ch_can yX4_tried 1 = true := by decide +kernel
abbrev cX4_nameOf : ByteArray := prog_7_method_12_code
def yX4_nameOf : MethodName := ⟨RX4, "nameOf", "(Ljava/lang/String;)I"⟩
abbrev mX4_nameOf : ch_M := (yX4_nameOf, cX4_nameOf, 4, (some .int), [])
theorem can_X4_nameOf : ch_can yX4_nameOf 1 = true := by decide +kernel
abbrev cX5_init : ByteArray := prog_8_method_1_code
def yX5_init : MethodName := ⟨RX5, "<init>", "(I)V"⟩
abbrev mX5_init : ch_M := (yX5_init, cX5_init, 2, none, [])
theorem can_X5_init : ch_can yX5_init 1 = true := by decide +kernel
abbrev cX6_init : ByteArray := prog_4_method_1_code
def yX6_init : MethodName := ⟨RX6, "<init>", "(II)V"⟩
abbrev mX6_init : ch_M := (yX6_init, cX6_init, 3, none, [])
theorem can_X6_init : ch_can yX6_init 2 = true := by decide +kernel
abbrev cX6_own : ByteArray := prog_4_method_2_code
def yX6_own : MethodName := ⟨RX6, "own", "(ZI)LClassHouse$Member;"⟩
abbrev mX6_own : ch_M := (yX6_own, cX6_own, 5, (some (.object "ClassHouse$Member")), [])
theorem can_X6_own : ch_can yX6_own 2 = true := by decide +kernel
abbrev cX6_method : ByteArray := prog_4_method_3_code
def yX6_method : MethodName := ⟨RX6, "method", "(I)LClassHouse$Member;"⟩
abbrev mX6_method : ch_M := (yX6_method, cX6_method, 4, (some (.object "ClassHouse$Member")), [])
theorem can_X6_method : ch_can yX6_method 1 = true := by decide +kernel
abbrev cX6_field : ByteArray := prog_4_method_4_code
def yX6_field : MethodName := ⟨RX6, "field", "(I)LClassHouse$Member;"⟩
abbrev mX6_field : ch_M := (yX6_field, cX6_field, 4, (some (.object "ClassHouse$Member")), [])
theorem can_X6_field : ch_can yX6_field 1 = true := by decide +kernel
abbrev cX6_fieldAt : ByteArray := prog_4_method_5_code
def yX6_fieldAt : MethodName := ⟨RX6, "fieldAt", "(LClassHouse$Member;)I"⟩
abbrev mX6_fieldAt : ch_M := (yX6_fieldAt, cX6_fieldAt, 5, (some .int), [])
theorem can_X6_fieldAt : ch_can yX6_fieldAt 1 = true := by decide +kernel
abbrev cX6_isSub : ByteArray := prog_4_method_6_code
def yX6_isSub : MethodName := ⟨RX6, "isSub", "(LClassHouse$Kind;)Z"⟩
abbrev mX6_isSub : ch_M := (yX6_isSub, cX6_isSub, 3, (some .boolean), [])
theorem can_X6_isSub : ch_can yX6_isSub 1 = true := by decide +kernel
abbrev cX7_init : ByteArray := prog_6_method_1_code
def yX7_init : MethodName := ⟨RX7, "<init>", "(ZIII)V"⟩
abbrev mX7_init : ch_M := (yX7_init, cX7_init, 5, none, [])
theorem can_X7_init : ch_can yX7_init 4 = true := by decide +kernel
abbrev cX8_init : ByteArray := prog_9_method_1_code
def yX8_init : MethodName := ⟨RX8, "<init>", "()V"⟩
abbrev mX8_init : ch_M := (yX8_init, cX8_init, 1, none, [])
theorem can_X8_init : ch_can yX8_init 0 = true := by decide +kernel
abbrev cX8_add : ByteArray := prog_9_method_2_code
def yX8_add : MethodName := ⟨RX8, "add", "(I)V"⟩
abbrev mX8_add : ch_M := (yX8_add, cX8_add, 3, none, [])
theorem can_X8_add : ch_can yX8_add 1 = true := by decide +kernel
abbrev cX8_get : ByteArray := prog_9_method_3_code
def yX8_get : MethodName := ⟨RX8, "get", "(I)I"⟩
abbrev mX8_get : ch_M := (yX8_get, cX8_get, 2, (some .int), [])
theorem can_X8_get : ch_can yX8_get 1 = true := by decide +kernel
abbrev cX8_find : ByteArray := prog_9_method_4_code
def yX8_find : MethodName := ⟨RX8, "find", "(I)I"⟩
abbrev mX8_find : ch_M := (yX8_find, cX8_find, 3, (some .int), [])
theorem can_X8_find : ch_can yX8_find 1 = true := by decide +kernel
abbrev cX8_has : ByteArray := prog_9_method_5_code
def yX8_has : MethodName := ⟨RX8, "has", "(I)Z"⟩
abbrev mX8_has : ch_M := (yX8_has, cX8_has, 2, (some .boolean), [])
theorem can_X8_has : ch_can yX8_has 1 = true := by decide +kernel
abbrev cX9_init : ByteArray := prog_10_method_1_code
def yX9_init : MethodName := ⟨RX9, "<init>", "(II)V"⟩
abbrev mX9_init : ch_M := (yX9_init, cX9_init, 3, none, [])
theorem can_X9_init : ch_can yX9_init 2 = true := by decide +kernel
theorem fl_J4_7 : ch_fl RJ4 7 13 0 := ⟨(RJ5, TJ5, 3), "java/util/AbstractList", rfl, Nat.le_of_ble_eq_true rfl, Or.inl rfl, Or.inl q454⟩
theorem fl_J5_9 : ch_fl RJ5 9 13 1 := ⟨(RJ5, TJ5, 3), "java/util/ArrayList", rfl, Nat.le_of_ble_eq_true rfl, Or.inl rfl, Or.inl q452⟩
theorem fl_J5_48 : ch_fl RJ5 48 13 2 := ⟨(RJ5, TJ5, 3), "java/util/ArrayList", rfl, Nat.le_of_ble_eq_true rfl, Or.inl rfl, Or.inl q453⟩
theorem fl_J5_63 : ch_fl RJ5 63 13 0 := ⟨(RJ5, TJ5, 3), "java/util/ArrayList", rfl, Nat.le_of_ble_eq_true rfl, Or.inr q456, Or.inl q455⟩
theorem fl_X0_131 : ch_fl RX0 131 1 10 := ⟨(RX1, TX1, 22), "ClassHouse$Machine", rfl, Nat.le_of_ble_eq_true rfl, Or.inl rfl, Or.inr ⟨_, q326⟩⟩
theorem fl_X0_84 : ch_fl RX0 84 1 11 := ⟨(RX1, TX1, 22), "ClassHouse$Machine", rfl, Nat.le_of_ble_eq_true rfl, Or.inl rfl, Or.inr ⟨_, q328⟩⟩
theorem fl_X0_88 : ch_fl RX0 88 1 12 := ⟨(RX1, TX1, 22), "ClassHouse$Machine", rfl, Nat.le_of_ble_eq_true rfl, Or.inl rfl, Or.inr ⟨_, q329⟩⟩
theorem fl_X0_78 : ch_fl RX0 78 1 13 := ⟨(RX1, TX1, 22), "ClassHouse$Machine", rfl, Nat.le_of_ble_eq_true rfl, Or.inl rfl, Or.inr ⟨_, q331⟩⟩
theorem fl_X0_116 : ch_fl RX0 116 1 14 := ⟨(RX1, TX1, 22), "ClassHouse$Machine", rfl, Nat.le_of_ble_eq_true rfl, Or.inl rfl, Or.inr ⟨_, q334⟩⟩
theorem fl_X0_113 : ch_fl RX0 113 1 15 := ⟨(RX1, TX1, 22), "ClassHouse$Machine", rfl, Nat.le_of_ble_eq_true rfl, Or.inl rfl, Or.inr ⟨_, q336⟩⟩
theorem fl_X0_122 : ch_fl RX0 122 1 16 := ⟨(RX1, TX1, 22), "ClassHouse$Machine", rfl, Nat.le_of_ble_eq_true rfl, Or.inl rfl, Or.inr ⟨_, q338⟩⟩
theorem fl_X0_125 : ch_fl RX0 125 1 17 := ⟨(RX1, TX1, 22), "ClassHouse$Machine", rfl, Nat.le_of_ble_eq_true rfl, Or.inl rfl, Or.inr ⟨_, q340⟩⟩
theorem fl_X0_134 : ch_fl RX0 134 1 18 := ⟨(RX1, TX1, 22), "ClassHouse$Machine", rfl, Nat.le_of_ble_eq_true rfl, Or.inl rfl, Or.inr ⟨_, q342⟩⟩
theorem fl_X0_107 : ch_fl RX0 107 1 19 := ⟨(RX1, TX1, 22), "ClassHouse$Machine", rfl, Nat.le_of_ble_eq_true rfl, Or.inl rfl, Or.inr ⟨_, q344⟩⟩
theorem fl_X0_110 : ch_fl RX0 110 1 20 := ⟨(RX1, TX1, 22), "ClassHouse$Machine", rfl, Nat.le_of_ble_eq_true rfl, Or.inl rfl, Or.inr ⟨_, q346⟩⟩
theorem fl_X0_9 : ch_fl RX0 9 0 0 := ⟨(RX0, TX0, 7), "ClassHouse", rfl, Nat.le_of_ble_eq_true rfl, Or.inl rfl, Or.inl q393⟩
theorem fl_X0_24 : ch_fl RX0 24 0 1 := ⟨(RX0, TX0, 7), "ClassHouse", rfl, Nat.le_of_ble_eq_true rfl, Or.inl rfl, Or.inl q394⟩
theorem fl_X0_31 : ch_fl RX0 31 0 2 := ⟨(RX0, TX0, 7), "ClassHouse", rfl, Nat.le_of_ble_eq_true rfl, Or.inl rfl, Or.inl q395⟩
theorem fl_X0_71 : ch_fl RX0 71 0 3 := ⟨(RX0, TX0, 7), "ClassHouse", rfl, Nat.le_of_ble_eq_true rfl, Or.inl rfl, Or.inl q396⟩
theorem fl_X0_13 : ch_fl RX0 13 0 4 := ⟨(RX0, TX0, 7), "ClassHouse", rfl, Nat.le_of_ble_eq_true rfl, Or.inl rfl, Or.inl q397⟩
theorem fl_X0_20 : ch_fl RX0 20 0 5 := ⟨(RX0, TX0, 7), "ClassHouse", rfl, Nat.le_of_ble_eq_true rfl, Or.inl rfl, Or.inl q398⟩
theorem fl_X0_35 : ch_fl RX0 35 0 6 := ⟨(RX0, TX0, 7), "ClassHouse", rfl, Nat.le_of_ble_eq_true rfl, Or.inl rfl, Or.inl q399⟩
theorem fl_X0_56 : ch_fl RX0 56 5 6 := ⟨(RX5, TX5, 7), "ClassHouse$Refused", rfl, Nat.le_of_ble_eq_true rfl, Or.inl rfl, Or.inr ⟨_, q579⟩⟩
theorem fl_X0_59 : ch_fl RX0 59 11 1 := ⟨(RX11, TX11, 14), "ClassHouse$Checker", rfl, Nat.le_of_ble_eq_true rfl, Or.inl rfl, Or.inr ⟨_, q1066⟩⟩
theorem fl_X0_91 : ch_fl RX0 91 11 12 := ⟨(RX11, TX11, 14), "ClassHouse$Checker", rfl, Nat.le_of_ble_eq_true rfl, Or.inl rfl, Or.inr ⟨_, q1078⟩⟩
theorem fl_X0_95 : ch_fl RX0 95 11 13 := ⟨(RX11, TX11, 14), "ClassHouse$Checker", rfl, Nat.le_of_ble_eq_true rfl, Or.inl rfl, Or.inr ⟨_, q1080⟩⟩
theorem fl_X1_211 : ch_fl RX1 211 2 6 := ⟨(RX2, TX2, 7), "ClassHouse$Thrown", rfl, Nat.le_of_ble_eq_true rfl, Or.inl rfl, Or.inr ⟨_, q297⟩⟩
theorem fl_X1_56 : ch_fl RX1 56 1 0 := ⟨(RX1, TX1, 22), "ClassHouse$Machine", rfl, Nat.le_of_ble_eq_true rfl, Or.inl rfl, Or.inl q315⟩
theorem fl_X1_72 : ch_fl RX1 72 1 1 := ⟨(RX1, TX1, 22), "ClassHouse$Machine", rfl, Nat.le_of_ble_eq_true rfl, Or.inl rfl, Or.inl q316⟩
theorem fl_X1_9 : ch_fl RX1 9 1 2 := ⟨(RX1, TX1, 22), "ClassHouse$Machine", rfl, Nat.le_of_ble_eq_true rfl, Or.inl rfl, Or.inl q317⟩
theorem fl_X1_15 : ch_fl RX1 15 1 3 := ⟨(RX1, TX1, 22), "ClassHouse$Machine", rfl, Nat.le_of_ble_eq_true rfl, Or.inl rfl, Or.inl q318⟩
theorem fl_X1_75 : ch_fl RX1 75 1 4 := ⟨(RX1, TX1, 22), "ClassHouse$Machine", rfl, Nat.le_of_ble_eq_true rfl, Or.inl rfl, Or.inl q319⟩
theorem fl_X1_19 : ch_fl RX1 19 1 5 := ⟨(RX1, TX1, 22), "ClassHouse$Machine", rfl, Nat.le_of_ble_eq_true rfl, Or.inl rfl, Or.inl q320⟩
theorem fl_X1_78 : ch_fl RX1 78 1 6 := ⟨(RX1, TX1, 22), "ClassHouse$Machine", rfl, Nat.le_of_ble_eq_true rfl, Or.inl rfl, Or.inl q321⟩
theorem fl_X1_24 : ch_fl RX1 24 1 7 := ⟨(RX1, TX1, 22), "ClassHouse$Machine", rfl, Nat.le_of_ble_eq_true rfl, Or.inl rfl, Or.inl q322⟩
theorem fl_X1_28 : ch_fl RX1 28 1 8 := ⟨(RX1, TX1, 22), "ClassHouse$Machine", rfl, Nat.le_of_ble_eq_true rfl, Or.inl rfl, Or.inl q323⟩
theorem fl_X1_32 : ch_fl RX1 32 1 9 := ⟨(RX1, TX1, 22), "ClassHouse$Machine", rfl, Nat.le_of_ble_eq_true rfl, Or.inl rfl, Or.inl q324⟩
theorem fl_X1_81 : ch_fl RX1 81 1 10 := ⟨(RX1, TX1, 22), "ClassHouse$Machine", rfl, Nat.le_of_ble_eq_true rfl, Or.inl rfl, Or.inl q325⟩
theorem fl_X1_35 : ch_fl RX1 35 1 11 := ⟨(RX1, TX1, 22), "ClassHouse$Machine", rfl, Nat.le_of_ble_eq_true rfl, Or.inl rfl, Or.inl q327⟩
theorem fl_X1_298 : ch_fl RX1 298 1 12 := ⟨(RX1, TX1, 22), "ClassHouse$Machine", rfl, Nat.le_of_ble_eq_true rfl, Or.inl rfl, Or.inl q330⟩
theorem fl_X1_295 : ch_fl RX1 295 1 13 := ⟨(RX1, TX1, 22), "ClassHouse$Machine", rfl, Nat.le_of_ble_eq_true rfl, Or.inl rfl, Or.inl q332⟩
theorem fl_X1_38 : ch_fl RX1 38 1 14 := ⟨(RX1, TX1, 22), "ClassHouse$Machine", rfl, Nat.le_of_ble_eq_true rfl, Or.inl rfl, Or.inl q333⟩
theorem fl_X1_84 : ch_fl RX1 84 1 15 := ⟨(RX1, TX1, 22), "ClassHouse$Machine", rfl, Nat.le_of_ble_eq_true rfl, Or.inl rfl, Or.inl q335⟩
theorem fl_X1_87 : ch_fl RX1 87 1 16 := ⟨(RX1, TX1, 22), "ClassHouse$Machine", rfl, Nat.le_of_ble_eq_true rfl, Or.inl rfl, Or.inl q337⟩
theorem fl_X1_90 : ch_fl RX1 90 1 17 := ⟨(RX1, TX1, 22), "ClassHouse$Machine", rfl, Nat.le_of_ble_eq_true rfl, Or.inl rfl, Or.inl q339⟩
theorem fl_X1_93 : ch_fl RX1 93 1 18 := ⟨(RX1, TX1, 22), "ClassHouse$Machine", rfl, Nat.le_of_ble_eq_true rfl, Or.inl rfl, Or.inl q341⟩
theorem fl_X1_96 : ch_fl RX1 96 1 19 := ⟨(RX1, TX1, 22), "ClassHouse$Machine", rfl, Nat.le_of_ble_eq_true rfl, Or.inl rfl, Or.inl q343⟩
theorem fl_X1_99 : ch_fl RX1 99 1 20 := ⟨(RX1, TX1, 22), "ClassHouse$Machine", rfl, Nat.le_of_ble_eq_true rfl, Or.inl rfl, Or.inl q345⟩
theorem fl_X1_44 : ch_fl RX1 44 1 21 := ⟨(RX1, TX1, 22), "ClassHouse$Machine", rfl, Nat.le_of_ble_eq_true rfl, Or.inl rfl, Or.inl q347⟩
theorem fl_X1_137 : ch_fl RX1 137 6 3 := ⟨(RX6, TX6, 8), "ClassHouse$Kind", rfl, Nat.le_of_ble_eq_true rfl, Or.inl rfl, Or.inr ⟨_, q703⟩⟩
theorem fl_X1_102 : ch_fl RX1 102 6 4 := ⟨(RX6, TX6, 8), "ClassHouse$Kind", rfl, Nat.le_of_ble_eq_true rfl, Or.inl rfl, Or.inr ⟨_, q706⟩⟩
theorem fl_X1_144 : ch_fl RX1 144 6 5 := ⟨(RX6, TX6, 8), "ClassHouse$Kind", rfl, Nat.le_of_ble_eq_true rfl, Or.inl rfl, Or.inr ⟨_, q708⟩⟩
theorem fl_X1_141 : ch_fl RX1 141 6 6 := ⟨(RX6, TX6, 8), "ClassHouse$Kind", rfl, Nat.le_of_ble_eq_true rfl, Or.inl rfl, Or.inr ⟨_, q712⟩⟩
theorem fl_X1_60 : ch_fl RX1 60 6 7 := ⟨(RX6, TX6, 8), "ClassHouse$Kind", rfl, Nat.le_of_ble_eq_true rfl, Or.inl rfl, Or.inr ⟨_, q714⟩⟩
theorem fl_X1_228 : ch_fl RX1 228 8 1 := ⟨(RX8, TX8, 2), "ClassHouse$Row", rfl, Nat.le_of_ble_eq_true rfl, Or.inl rfl, Or.inr ⟨_, q778⟩⟩
theorem fl_X1_157 : ch_fl RX1 157 7 0 := ⟨(RX7, TX7, 12), "ClassHouse$Member", rfl, Nat.le_of_ble_eq_true rfl, Or.inl rfl, Or.inr ⟨_, q786⟩⟩
theorem fl_X1_240 : ch_fl RX1 240 7 8 := ⟨(RX7, TX7, 12), "ClassHouse$Member", rfl, Nat.le_of_ble_eq_true rfl, Or.inl rfl, Or.inr ⟨_, q806⟩⟩
theorem fl_X1_197 : ch_fl RX1 197 7 9 := ⟨(RX7, TX7, 12), "ClassHouse$Member", rfl, Nat.le_of_ble_eq_true rfl, Or.inl rfl, Or.inr ⟨_, q807⟩⟩
theorem fl_X1_224 : ch_fl RX1 224 7 10 := ⟨(RX7, TX7, 12), "ClassHouse$Member", rfl, Nat.le_of_ble_eq_true rfl, Or.inl rfl, Or.inr ⟨_, q810⟩⟩
theorem fl_X1_161 : ch_fl RX1 161 7 11 := ⟨(RX7, TX7, 12), "ClassHouse$Member", rfl, Nat.le_of_ble_eq_true rfl, Or.inl rfl, Or.inr ⟨_, q812⟩⟩
theorem fl_X1_218 : ch_fl RX1 218 12 6 := ⟨(RX12, TX12, 7), "ClassHouse$Ended", rfl, Nat.le_of_ble_eq_true rfl, Or.inl rfl, Or.inr ⟨_, q1361⟩⟩
theorem fl_X10_15 : ch_fl RX10 15 10 0 := ⟨(RX10, TX10, 6), "ClassHouse$Value", rfl, Nat.le_of_ble_eq_true rfl, Or.inl rfl, Or.inl q944⟩
theorem fl_X10_18 : ch_fl RX10 18 10 4 := ⟨(RX10, TX10, 6), "ClassHouse$Value", rfl, Nat.le_of_ble_eq_true rfl, Or.inl rfl, Or.inl q952⟩
theorem fl_X10_9 : ch_fl RX10 9 10 5 := ⟨(RX10, TX10, 6), "ClassHouse$Value", rfl, Nat.le_of_ble_eq_true rfl, Or.inl rfl, Or.inl q955⟩
theorem fl_X11_66 : ch_fl RX11 66 4 7 := ⟨(RX4, TX4, 9), "ClassHouse$Reader", rfl, Nat.le_of_ble_eq_true rfl, Or.inl rfl, Or.inr ⟨_, q472⟩⟩
theorem fl_X11_95 : ch_fl RX11 95 6 0 := ⟨(RX6, TX6, 8), "ClassHouse$Kind", rfl, Nat.le_of_ble_eq_true rfl, Or.inl rfl, Or.inr ⟨_, q696⟩⟩
theorem fl_X11_136 : ch_fl RX11 136 6 1 := ⟨(RX6, TX6, 8), "ClassHouse$Kind", rfl, Nat.le_of_ble_eq_true rfl, Or.inl rfl, Or.inr ⟨_, q698⟩⟩
theorem fl_X11_129 : ch_fl RX11 129 6 2 := ⟨(RX6, TX6, 8), "ClassHouse$Kind", rfl, Nat.le_of_ble_eq_true rfl, Or.inl rfl, Or.inr ⟨_, q700⟩⟩
theorem fl_X11_132 : ch_fl RX11 132 6 3 := ⟨(RX6, TX6, 8), "ClassHouse$Kind", rfl, Nat.le_of_ble_eq_true rfl, Or.inl rfl, Or.inr ⟨_, q704⟩⟩
theorem fl_X11_75 : ch_fl RX11 75 6 4 := ⟨(RX6, TX6, 8), "ClassHouse$Kind", rfl, Nat.le_of_ble_eq_true rfl, Or.inl rfl, Or.inr ⟨_, q705⟩⟩
theorem fl_X11_116 : ch_fl RX11 116 6 5 := ⟨(RX6, TX6, 8), "ClassHouse$Kind", rfl, Nat.le_of_ble_eq_true rfl, Or.inl rfl, Or.inr ⟨_, q709⟩⟩
theorem fl_X11_143 : ch_fl RX11 143 6 6 := ⟨(RX6, TX6, 8), "ClassHouse$Kind", rfl, Nat.le_of_ble_eq_true rfl, Or.inl rfl, Or.inr ⟨_, q713⟩⟩
theorem fl_X11_146 : ch_fl RX11 146 6 7 := ⟨(RX6, TX6, 8), "ClassHouse$Kind", rfl, Nat.le_of_ble_eq_true rfl, Or.inl rfl, Or.inr ⟨_, q715⟩⟩
theorem fl_X11_318 : ch_fl RX11 318 8 0 := ⟨(RX8, TX8, 2), "ClassHouse$Row", rfl, Nat.le_of_ble_eq_true rfl, Or.inl rfl, Or.inr ⟨_, q774⟩⟩
theorem fl_X11_173 : ch_fl RX11 173 8 1 := ⟨(RX8, TX8, 2), "ClassHouse$Row", rfl, Nat.le_of_ble_eq_true rfl, Or.inl rfl, Or.inr ⟨_, q776⟩⟩
theorem fl_X11_121 : ch_fl RX11 121 7 0 := ⟨(RX7, TX7, 12), "ClassHouse$Member", rfl, Nat.le_of_ble_eq_true rfl, Or.inl rfl, Or.inr ⟨_, q787⟩⟩
theorem fl_X11_149 : ch_fl RX11 149 7 1 := ⟨(RX7, TX7, 12), "ClassHouse$Member", rfl, Nat.le_of_ble_eq_true rfl, Or.inl rfl, Or.inr ⟨_, q789⟩⟩
theorem fl_X11_159 : ch_fl RX11 159 7 2 := ⟨(RX7, TX7, 12), "ClassHouse$Member", rfl, Nat.le_of_ble_eq_true rfl, Or.inl rfl, Or.inr ⟨_, q792⟩⟩
theorem fl_X11_164 : ch_fl RX11 164 7 3 := ⟨(RX7, TX7, 12), "ClassHouse$Member", rfl, Nat.le_of_ble_eq_true rfl, Or.inl rfl, Or.inr ⟨_, q794⟩⟩
theorem fl_X11_172 : ch_fl RX11 172 7 4 := ⟨(RX7, TX7, 12), "ClassHouse$Member", rfl, Nat.le_of_ble_eq_true rfl, Or.inl rfl, Or.inr ⟨_, q796⟩⟩
theorem fl_X11_177 : ch_fl RX11 177 7 5 := ⟨(RX7, TX7, 12), "ClassHouse$Member", rfl, Nat.le_of_ble_eq_true rfl, Or.inl rfl, Or.inr ⟨_, q799⟩⟩
theorem fl_X11_211 : ch_fl RX11 211 7 6 := ⟨(RX7, TX7, 12), "ClassHouse$Member", rfl, Nat.le_of_ble_eq_true rfl, Or.inl rfl, Or.inr ⟨_, q801⟩⟩
theorem fl_X11_218 : ch_fl RX11 218 7 7 := ⟨(RX7, TX7, 12), "ClassHouse$Member", rfl, Nat.le_of_ble_eq_true rfl, Or.inl rfl, Or.inr ⟨_, q803⟩⟩
theorem fl_X11_203 : ch_fl RX11 203 7 8 := ⟨(RX7, TX7, 12), "ClassHouse$Member", rfl, Nat.le_of_ble_eq_true rfl, Or.inl rfl, Or.inr ⟨_, q805⟩⟩
theorem fl_X11_228 : ch_fl RX11 228 7 9 := ⟨(RX7, TX7, 12), "ClassHouse$Member", rfl, Nat.le_of_ble_eq_true rfl, Or.inl rfl, Or.inr ⟨_, q808⟩⟩
theorem fl_X11_326 : ch_fl RX11 326 7 10 := ⟨(RX7, TX7, 12), "ClassHouse$Member", rfl, Nat.le_of_ble_eq_true rfl, Or.inl rfl, Or.inr ⟨_, q811⟩⟩
theorem fl_X11_156 : ch_fl RX11 156 7 11 := ⟨(RX7, TX7, 12), "ClassHouse$Member", rfl, Nat.le_of_ble_eq_true rfl, Or.inl rfl, Or.inr ⟨_, q813⟩⟩
theorem fl_X11_249 : ch_fl RX11 249 9 0 := ⟨(RX9, TX9, 8), "ClassHouse$Statement", rfl, Nat.le_of_ble_eq_true rfl, Or.inl rfl, Or.inr ⟨_, q874⟩⟩
theorem fl_X11_237 : ch_fl RX11 237 9 1 := ⟨(RX9, TX9, 8), "ClassHouse$Statement", rfl, Nat.le_of_ble_eq_true rfl, Or.inl rfl, Or.inr ⟨_, q877⟩⟩
theorem fl_X11_284 : ch_fl RX11 284 9 2 := ⟨(RX9, TX9, 8), "ClassHouse$Statement", rfl, Nat.le_of_ble_eq_true rfl, Or.inl rfl, Or.inr ⟨_, q878⟩⟩
theorem fl_X11_285 : ch_fl RX11 285 9 3 := ⟨(RX9, TX9, 8), "ClassHouse$Statement", rfl, Nat.le_of_ble_eq_true rfl, Or.inl rfl, Or.inr ⟨_, q880⟩⟩
theorem fl_X11_289 : ch_fl RX11 289 9 4 := ⟨(RX9, TX9, 8), "ClassHouse$Statement", rfl, Nat.le_of_ble_eq_true rfl, Or.inl rfl, Or.inr ⟨_, q882⟩⟩
theorem fl_X11_258 : ch_fl RX11 258 9 5 := ⟨(RX9, TX9, 8), "ClassHouse$Statement", rfl, Nat.le_of_ble_eq_true rfl, Or.inl rfl, Or.inr ⟨_, q884⟩⟩
theorem fl_X11_312 : ch_fl RX11 312 9 6 := ⟨(RX9, TX9, 8), "ClassHouse$Statement", rfl, Nat.le_of_ble_eq_true rfl, Or.inl rfl, Or.inr ⟨_, q887⟩⟩
theorem fl_X11_315 : ch_fl RX11 315 9 7 := ⟨(RX9, TX9, 8), "ClassHouse$Statement", rfl, Nat.le_of_ble_eq_true rfl, Or.inl rfl, Or.inr ⟨_, q888⟩⟩
theorem fl_X11_292 : ch_fl RX11 292 10 0 := ⟨(RX10, TX10, 6), "ClassHouse$Value", rfl, Nat.le_of_ble_eq_true rfl, Or.inl rfl, Or.inr ⟨_, q945⟩⟩
theorem fl_X11_298 : ch_fl RX11 298 10 1 := ⟨(RX10, TX10, 6), "ClassHouse$Value", rfl, Nat.le_of_ble_eq_true rfl, Or.inl rfl, Or.inr ⟨_, q946⟩⟩
theorem fl_X11_301 : ch_fl RX11 301 10 2 := ⟨(RX10, TX10, 6), "ClassHouse$Value", rfl, Nat.le_of_ble_eq_true rfl, Or.inl rfl, Or.inr ⟨_, q948⟩⟩
theorem fl_X11_346 : ch_fl RX11 346 10 3 := ⟨(RX10, TX10, 6), "ClassHouse$Value", rfl, Nat.le_of_ble_eq_true rfl, Or.inl rfl, Or.inr ⟨_, q950⟩⟩
theorem fl_X11_295 : ch_fl RX11 295 10 4 := ⟨(RX10, TX10, 6), "ClassHouse$Value", rfl, Nat.le_of_ble_eq_true rfl, Or.inl rfl, Or.inr ⟨_, q953⟩⟩
theorem fl_X11_338 : ch_fl RX11 338 10 5 := ⟨(RX10, TX10, 6), "ClassHouse$Value", rfl, Nat.le_of_ble_eq_true rfl, Or.inl rfl, Or.inr ⟨_, q956⟩⟩
theorem fl_X11_35 : ch_fl RX11 35 11 0 := ⟨(RX11, TX11, 14), "ClassHouse$Checker", rfl, Nat.le_of_ble_eq_true rfl, Or.inl rfl, Or.inl q1064⟩
theorem fl_X11_12 : ch_fl RX11 12 11 1 := ⟨(RX11, TX11, 14), "ClassHouse$Checker", rfl, Nat.le_of_ble_eq_true rfl, Or.inl rfl, Or.inl q1065⟩
theorem fl_X11_80 : ch_fl RX11 80 11 2 := ⟨(RX11, TX11, 14), "ClassHouse$Checker", rfl, Nat.le_of_ble_eq_true rfl, Or.inl rfl, Or.inl q1067⟩
theorem fl_X11_199 : ch_fl RX11 199 11 3 := ⟨(RX11, TX11, 14), "ClassHouse$Checker", rfl, Nat.le_of_ble_eq_true rfl, Or.inl rfl, Or.inl q1068⟩
theorem fl_X11_201 : ch_fl RX11 201 11 4 := ⟨(RX11, TX11, 14), "ClassHouse$Checker", rfl, Nat.le_of_ble_eq_true rfl, Or.inl rfl, Or.inl q1069⟩
theorem fl_X11_194 : ch_fl RX11 194 11 5 := ⟨(RX11, TX11, 14), "ClassHouse$Checker", rfl, Nat.le_of_ble_eq_true rfl, Or.inl rfl, Or.inl q1070⟩
theorem fl_X11_88 : ch_fl RX11 88 11 6 := ⟨(RX11, TX11, 14), "ClassHouse$Checker", rfl, Nat.le_of_ble_eq_true rfl, Or.inl rfl, Or.inl q1071⟩
theorem fl_X11_21 : ch_fl RX11 21 11 7 := ⟨(RX11, TX11, 14), "ClassHouse$Checker", rfl, Nat.le_of_ble_eq_true rfl, Or.inl rfl, Or.inl q1072⟩
theorem fl_X11_25 : ch_fl RX11 25 11 8 := ⟨(RX11, TX11, 14), "ClassHouse$Checker", rfl, Nat.le_of_ble_eq_true rfl, Or.inl rfl, Or.inl q1073⟩
theorem fl_X11_28 : ch_fl RX11 28 11 9 := ⟨(RX11, TX11, 14), "ClassHouse$Checker", rfl, Nat.le_of_ble_eq_true rfl, Or.inl rfl, Or.inl q1074⟩
theorem fl_X11_204 : ch_fl RX11 204 11 10 := ⟨(RX11, TX11, 14), "ClassHouse$Checker", rfl, Nat.le_of_ble_eq_true rfl, Or.inl rfl, Or.inl q1075⟩
theorem fl_X11_32 : ch_fl RX11 32 11 11 := ⟨(RX11, TX11, 14), "ClassHouse$Checker", rfl, Nat.le_of_ble_eq_true rfl, Or.inl rfl, Or.inl q1076⟩
theorem fl_X11_186 : ch_fl RX11 186 11 12 := ⟨(RX11, TX11, 14), "ClassHouse$Checker", rfl, Nat.le_of_ble_eq_true rfl, Or.inl rfl, Or.inl q1077⟩
theorem fl_X11_191 : ch_fl RX11 191 11 13 := ⟨(RX11, TX11, 14), "ClassHouse$Checker", rfl, Nat.le_of_ble_eq_true rfl, Or.inl rfl, Or.inl q1079⟩
theorem fl_X12_7 : ch_fl RX12 7 12 6 := ⟨(RX12, TX12, 7), "ClassHouse$Ended", rfl, Nat.le_of_ble_eq_true rfl, Or.inl rfl, Or.inl q1360⟩
theorem fl_X2_7 : ch_fl RX2 7 2 6 := ⟨(RX2, TX2, 7), "ClassHouse$Thrown", rfl, Nat.le_of_ble_eq_true rfl, Or.inl rfl, Or.inl q296⟩
theorem fl_X3_7 : ch_fl RX3 7 3 0 := ⟨(RX3, TX3, 109), "ClassHouseModel", rfl, Nat.le_of_ble_eq_true rfl, Or.inl rfl, Or.inl q1548⟩
theorem fl_X3_435 : ch_fl RX3 435 3 1 := ⟨(RX3, TX3, 109), "ClassHouseModel", rfl, Nat.le_of_ble_eq_true rfl, Or.inl rfl, Or.inl q1549⟩
theorem fl_X3_13 : ch_fl RX3 13 3 2 := ⟨(RX3, TX3, 109), "ClassHouseModel", rfl, Nat.le_of_ble_eq_true rfl, Or.inl rfl, Or.inl q1550⟩
theorem fl_X3_240 : ch_fl RX3 240 3 3 := ⟨(RX3, TX3, 109), "ClassHouseModel", rfl, Nat.le_of_ble_eq_true rfl, Or.inl rfl, Or.inl q1551⟩
theorem fl_X3_253 : ch_fl RX3 253 3 4 := ⟨(RX3, TX3, 109), "ClassHouseModel", rfl, Nat.le_of_ble_eq_true rfl, Or.inl rfl, Or.inl q1552⟩
theorem fl_X3_263 : ch_fl RX3 263 3 5 := ⟨(RX3, TX3, 109), "ClassHouseModel", rfl, Nat.le_of_ble_eq_true rfl, Or.inl rfl, Or.inl q1553⟩
theorem fl_X3_246 : ch_fl RX3 246 3 6 := ⟨(RX3, TX3, 109), "ClassHouseModel", rfl, Nat.le_of_ble_eq_true rfl, Or.inl rfl, Or.inl q1554⟩
theorem fl_X3_243 : ch_fl RX3 243 3 7 := ⟨(RX3, TX3, 109), "ClassHouseModel", rfl, Nat.le_of_ble_eq_true rfl, Or.inl rfl, Or.inl q1555⟩
theorem fl_X3_256 : ch_fl RX3 256 3 8 := ⟨(RX3, TX3, 109), "ClassHouseModel", rfl, Nat.le_of_ble_eq_true rfl, Or.inl rfl, Or.inl q1556⟩
theorem fl_X3_283 : ch_fl RX3 283 3 9 := ⟨(RX3, TX3, 109), "ClassHouseModel", rfl, Nat.le_of_ble_eq_true rfl, Or.inl rfl, Or.inl q1557⟩
theorem fl_X3_292 : ch_fl RX3 292 3 10 := ⟨(RX3, TX3, 109), "ClassHouseModel", rfl, Nat.le_of_ble_eq_true rfl, Or.inl rfl, Or.inl q1558⟩
theorem fl_X3_221 : ch_fl RX3 221 3 11 := ⟨(RX3, TX3, 109), "ClassHouseModel", rfl, Nat.le_of_ble_eq_true rfl, Or.inl rfl, Or.inl q1559⟩
theorem fl_X3_16 : ch_fl RX3 16 3 12 := ⟨(RX3, TX3, 109), "ClassHouseModel", rfl, Nat.le_of_ble_eq_true rfl, Or.inl rfl, Or.inl q1560⟩
theorem fl_X3_19 : ch_fl RX3 19 3 13 := ⟨(RX3, TX3, 109), "ClassHouseModel", rfl, Nat.le_of_ble_eq_true rfl, Or.inl rfl, Or.inl q1561⟩
theorem fl_X3_22 : ch_fl RX3 22 3 14 := ⟨(RX3, TX3, 109), "ClassHouseModel", rfl, Nat.le_of_ble_eq_true rfl, Or.inl rfl, Or.inl q1562⟩
theorem fl_X3_302 : ch_fl RX3 302 3 15 := ⟨(RX3, TX3, 109), "ClassHouseModel", rfl, Nat.le_of_ble_eq_true rfl, Or.inl rfl, Or.inl q1563⟩
theorem fl_X3_25 : ch_fl RX3 25 3 16 := ⟨(RX3, TX3, 109), "ClassHouseModel", rfl, Nat.le_of_ble_eq_true rfl, Or.inl rfl, Or.inl q1564⟩
theorem fl_X3_28 : ch_fl RX3 28 3 17 := ⟨(RX3, TX3, 109), "ClassHouseModel", rfl, Nat.le_of_ble_eq_true rfl, Or.inl rfl, Or.inl q1565⟩
theorem fl_X3_31 : ch_fl RX3 31 3 18 := ⟨(RX3, TX3, 109), "ClassHouseModel", rfl, Nat.le_of_ble_eq_true rfl, Or.inl rfl, Or.inl q1566⟩
theorem fl_X3_34 : ch_fl RX3 34 3 19 := ⟨(RX3, TX3, 109), "ClassHouseModel", rfl, Nat.le_of_ble_eq_true rfl, Or.inl rfl, Or.inl q1567⟩
theorem fl_X3_37 : ch_fl RX3 37 3 20 := ⟨(RX3, TX3, 109), "ClassHouseModel", rfl, Nat.le_of_ble_eq_true rfl, Or.inl rfl, Or.inl q1568⟩
theorem fl_X3_359 : ch_fl RX3 359 3 21 := ⟨(RX3, TX3, 109), "ClassHouseModel", rfl, Nat.le_of_ble_eq_true rfl, Or.inl rfl, Or.inl q1569⟩
theorem fl_X3_40 : ch_fl RX3 40 3 22 := ⟨(RX3, TX3, 109), "ClassHouseModel", rfl, Nat.le_of_ble_eq_true rfl, Or.inl rfl, Or.inl q1570⟩
theorem fl_X3_356 : ch_fl RX3 356 3 23 := ⟨(RX3, TX3, 109), "ClassHouseModel", rfl, Nat.le_of_ble_eq_true rfl, Or.inl rfl, Or.inl q1571⟩
theorem fl_X3_43 : ch_fl RX3 43 3 24 := ⟨(RX3, TX3, 109), "ClassHouseModel", rfl, Nat.le_of_ble_eq_true rfl, Or.inl rfl, Or.inl q1572⟩
theorem fl_X3_366 : ch_fl RX3 366 3 25 := ⟨(RX3, TX3, 109), "ClassHouseModel", rfl, Nat.le_of_ble_eq_true rfl, Or.inl rfl, Or.inl q1573⟩
theorem fl_X3_46 : ch_fl RX3 46 3 26 := ⟨(RX3, TX3, 109), "ClassHouseModel", rfl, Nat.le_of_ble_eq_true rfl, Or.inl rfl, Or.inl q1574⟩
theorem fl_X3_49 : ch_fl RX3 49 3 27 := ⟨(RX3, TX3, 109), "ClassHouseModel", rfl, Nat.le_of_ble_eq_true rfl, Or.inl rfl, Or.inl q1575⟩
theorem fl_X3_52 : ch_fl RX3 52 3 28 := ⟨(RX3, TX3, 109), "ClassHouseModel", rfl, Nat.le_of_ble_eq_true rfl, Or.inl rfl, Or.inl q1576⟩
theorem fl_X3_55 : ch_fl RX3 55 3 29 := ⟨(RX3, TX3, 109), "ClassHouseModel", rfl, Nat.le_of_ble_eq_true rfl, Or.inl rfl, Or.inl q1577⟩
theorem fl_X3_58 : ch_fl RX3 58 3 30 := ⟨(RX3, TX3, 109), "ClassHouseModel", rfl, Nat.le_of_ble_eq_true rfl, Or.inl rfl, Or.inl q1578⟩
theorem fl_X3_61 : ch_fl RX3 61 3 31 := ⟨(RX3, TX3, 109), "ClassHouseModel", rfl, Nat.le_of_ble_eq_true rfl, Or.inl rfl, Or.inl q1579⟩
theorem fl_X3_64 : ch_fl RX3 64 3 32 := ⟨(RX3, TX3, 109), "ClassHouseModel", rfl, Nat.le_of_ble_eq_true rfl, Or.inl rfl, Or.inl q1580⟩
theorem fl_X3_67 : ch_fl RX3 67 3 33 := ⟨(RX3, TX3, 109), "ClassHouseModel", rfl, Nat.le_of_ble_eq_true rfl, Or.inl rfl, Or.inl q1581⟩
theorem fl_X3_70 : ch_fl RX3 70 3 34 := ⟨(RX3, TX3, 109), "ClassHouseModel", rfl, Nat.le_of_ble_eq_true rfl, Or.inl rfl, Or.inl q1582⟩
theorem fl_X3_73 : ch_fl RX3 73 3 35 := ⟨(RX3, TX3, 109), "ClassHouseModel", rfl, Nat.le_of_ble_eq_true rfl, Or.inl rfl, Or.inl q1583⟩
theorem fl_X3_76 : ch_fl RX3 76 3 36 := ⟨(RX3, TX3, 109), "ClassHouseModel", rfl, Nat.le_of_ble_eq_true rfl, Or.inl rfl, Or.inl q1584⟩
theorem fl_X3_397 : ch_fl RX3 397 3 37 := ⟨(RX3, TX3, 109), "ClassHouseModel", rfl, Nat.le_of_ble_eq_true rfl, Or.inl rfl, Or.inl q1585⟩
theorem fl_X3_79 : ch_fl RX3 79 3 38 := ⟨(RX3, TX3, 109), "ClassHouseModel", rfl, Nat.le_of_ble_eq_true rfl, Or.inl rfl, Or.inl q1586⟩
theorem fl_X3_82 : ch_fl RX3 82 3 39 := ⟨(RX3, TX3, 109), "ClassHouseModel", rfl, Nat.le_of_ble_eq_true rfl, Or.inl rfl, Or.inl q1587⟩
theorem fl_X3_85 : ch_fl RX3 85 3 40 := ⟨(RX3, TX3, 109), "ClassHouseModel", rfl, Nat.le_of_ble_eq_true rfl, Or.inl rfl, Or.inl q1588⟩
theorem fl_X3_88 : ch_fl RX3 88 3 41 := ⟨(RX3, TX3, 109), "ClassHouseModel", rfl, Nat.le_of_ble_eq_true rfl, Or.inl rfl, Or.inl q1589⟩
theorem fl_X3_91 : ch_fl RX3 91 3 42 := ⟨(RX3, TX3, 109), "ClassHouseModel", rfl, Nat.le_of_ble_eq_true rfl, Or.inl rfl, Or.inl q1590⟩
theorem fl_X3_94 : ch_fl RX3 94 3 43 := ⟨(RX3, TX3, 109), "ClassHouseModel", rfl, Nat.le_of_ble_eq_true rfl, Or.inl rfl, Or.inl q1591⟩
theorem fl_X3_403 : ch_fl RX3 403 3 44 := ⟨(RX3, TX3, 109), "ClassHouseModel", rfl, Nat.le_of_ble_eq_true rfl, Or.inl rfl, Or.inl q1592⟩
theorem fl_X3_97 : ch_fl RX3 97 3 45 := ⟨(RX3, TX3, 109), "ClassHouseModel", rfl, Nat.le_of_ble_eq_true rfl, Or.inl rfl, Or.inl q1593⟩
theorem fl_X3_100 : ch_fl RX3 100 3 46 := ⟨(RX3, TX3, 109), "ClassHouseModel", rfl, Nat.le_of_ble_eq_true rfl, Or.inl rfl, Or.inl q1594⟩
theorem fl_X3_103 : ch_fl RX3 103 3 47 := ⟨(RX3, TX3, 109), "ClassHouseModel", rfl, Nat.le_of_ble_eq_true rfl, Or.inl rfl, Or.inl q1595⟩
theorem fl_X3_106 : ch_fl RX3 106 3 48 := ⟨(RX3, TX3, 109), "ClassHouseModel", rfl, Nat.le_of_ble_eq_true rfl, Or.inl rfl, Or.inl q1596⟩
theorem fl_X3_110 : ch_fl RX3 110 3 49 := ⟨(RX3, TX3, 109), "ClassHouseModel", rfl, Nat.le_of_ble_eq_true rfl, Or.inl rfl, Or.inl q1597⟩
theorem fl_X3_113 : ch_fl RX3 113 3 50 := ⟨(RX3, TX3, 109), "ClassHouseModel", rfl, Nat.le_of_ble_eq_true rfl, Or.inl rfl, Or.inl q1598⟩
theorem fl_X3_116 : ch_fl RX3 116 3 51 := ⟨(RX3, TX3, 109), "ClassHouseModel", rfl, Nat.le_of_ble_eq_true rfl, Or.inl rfl, Or.inl q1599⟩
theorem fl_X3_119 : ch_fl RX3 119 3 52 := ⟨(RX3, TX3, 109), "ClassHouseModel", rfl, Nat.le_of_ble_eq_true rfl, Or.inl rfl, Or.inl q1600⟩
theorem fl_X3_406 : ch_fl RX3 406 3 53 := ⟨(RX3, TX3, 109), "ClassHouseModel", rfl, Nat.le_of_ble_eq_true rfl, Or.inl rfl, Or.inl q1601⟩
theorem fl_X3_122 : ch_fl RX3 122 3 54 := ⟨(RX3, TX3, 109), "ClassHouseModel", rfl, Nat.le_of_ble_eq_true rfl, Or.inl rfl, Or.inl q1602⟩
theorem fl_X3_125 : ch_fl RX3 125 3 55 := ⟨(RX3, TX3, 109), "ClassHouseModel", rfl, Nat.le_of_ble_eq_true rfl, Or.inl rfl, Or.inl q1603⟩
theorem fl_X3_438 : ch_fl RX3 438 3 56 := ⟨(RX3, TX3, 109), "ClassHouseModel", rfl, Nat.le_of_ble_eq_true rfl, Or.inl rfl, Or.inl q1604⟩
theorem fl_X3_372 : ch_fl RX3 372 3 57 := ⟨(RX3, TX3, 109), "ClassHouseModel", rfl, Nat.le_of_ble_eq_true rfl, Or.inl rfl, Or.inl q1605⟩
theorem fl_X3_409 : ch_fl RX3 409 3 58 := ⟨(RX3, TX3, 109), "ClassHouseModel", rfl, Nat.le_of_ble_eq_true rfl, Or.inl rfl, Or.inl q1606⟩
theorem fl_X3_457 : ch_fl RX3 457 3 59 := ⟨(RX3, TX3, 109), "ClassHouseModel", rfl, Nat.le_of_ble_eq_true rfl, Or.inl rfl, Or.inl q1607⟩
theorem fl_X3_470 : ch_fl RX3 470 3 60 := ⟨(RX3, TX3, 109), "ClassHouseModel", rfl, Nat.le_of_ble_eq_true rfl, Or.inl rfl, Or.inl q1608⟩
theorem fl_X3_473 : ch_fl RX3 473 3 61 := ⟨(RX3, TX3, 109), "ClassHouseModel", rfl, Nat.le_of_ble_eq_true rfl, Or.inl rfl, Or.inl q1609⟩
theorem fl_X3_467 : ch_fl RX3 467 3 62 := ⟨(RX3, TX3, 109), "ClassHouseModel", rfl, Nat.le_of_ble_eq_true rfl, Or.inl rfl, Or.inl q1610⟩
theorem fl_X3_128 : ch_fl RX3 128 3 63 := ⟨(RX3, TX3, 109), "ClassHouseModel", rfl, Nat.le_of_ble_eq_true rfl, Or.inl rfl, Or.inl q1611⟩
theorem fl_X3_131 : ch_fl RX3 131 3 64 := ⟨(RX3, TX3, 109), "ClassHouseModel", rfl, Nat.le_of_ble_eq_true rfl, Or.inl rfl, Or.inl q1612⟩
theorem fl_X3_134 : ch_fl RX3 134 3 65 := ⟨(RX3, TX3, 109), "ClassHouseModel", rfl, Nat.le_of_ble_eq_true rfl, Or.inl rfl, Or.inl q1613⟩
theorem fl_X3_476 : ch_fl RX3 476 3 66 := ⟨(RX3, TX3, 109), "ClassHouseModel", rfl, Nat.le_of_ble_eq_true rfl, Or.inl rfl, Or.inl q1614⟩
theorem fl_X3_138 : ch_fl RX3 138 3 67 := ⟨(RX3, TX3, 109), "ClassHouseModel", rfl, Nat.le_of_ble_eq_true rfl, Or.inl rfl, Or.inl q1615⟩
theorem fl_X3_141 : ch_fl RX3 141 3 68 := ⟨(RX3, TX3, 109), "ClassHouseModel", rfl, Nat.le_of_ble_eq_true rfl, Or.inl rfl, Or.inl q1616⟩
theorem fl_X3_442 : ch_fl RX3 442 3 69 := ⟨(RX3, TX3, 109), "ClassHouseModel", rfl, Nat.le_of_ble_eq_true rfl, Or.inl rfl, Or.inl q1617⟩
theorem fl_X3_587 : ch_fl RX3 587 3 70 := ⟨(RX3, TX3, 109), "ClassHouseModel", rfl, Nat.le_of_ble_eq_true rfl, Or.inl rfl, Or.inl q1618⟩
theorem fl_X3_144 : ch_fl RX3 144 3 71 := ⟨(RX3, TX3, 109), "ClassHouseModel", rfl, Nat.le_of_ble_eq_true rfl, Or.inl rfl, Or.inl q1619⟩
theorem fl_X3_569 : ch_fl RX3 569 3 72 := ⟨(RX3, TX3, 109), "ClassHouseModel", rfl, Nat.le_of_ble_eq_true rfl, Or.inl rfl, Or.inl q1620⟩
theorem fl_X3_572 : ch_fl RX3 572 3 73 := ⟨(RX3, TX3, 109), "ClassHouseModel", rfl, Nat.le_of_ble_eq_true rfl, Or.inl rfl, Or.inl q1621⟩
theorem fl_X3_581 : ch_fl RX3 581 3 74 := ⟨(RX3, TX3, 109), "ClassHouseModel", rfl, Nat.le_of_ble_eq_true rfl, Or.inl rfl, Or.inl q1622⟩
theorem fl_X3_662 : ch_fl RX3 662 3 75 := ⟨(RX3, TX3, 109), "ClassHouseModel", rfl, Nat.le_of_ble_eq_true rfl, Or.inl rfl, Or.inl q1623⟩
theorem fl_X3_590 : ch_fl RX3 590 3 76 := ⟨(RX3, TX3, 109), "ClassHouseModel", rfl, Nat.le_of_ble_eq_true rfl, Or.inl rfl, Or.inl q1624⟩
theorem fl_X3_602 : ch_fl RX3 602 3 77 := ⟨(RX3, TX3, 109), "ClassHouseModel", rfl, Nat.le_of_ble_eq_true rfl, Or.inl rfl, Or.inl q1625⟩
theorem fl_X3_657 : ch_fl RX3 657 3 78 := ⟨(RX3, TX3, 109), "ClassHouseModel", rfl, Nat.le_of_ble_eq_true rfl, Or.inl rfl, Or.inl q1626⟩
theorem fl_X3_148 : ch_fl RX3 148 3 79 := ⟨(RX3, TX3, 109), "ClassHouseModel", rfl, Nat.le_of_ble_eq_true rfl, Or.inl rfl, Or.inl q1627⟩
theorem fl_X3_635 : ch_fl RX3 635 3 80 := ⟨(RX3, TX3, 109), "ClassHouseModel", rfl, Nat.le_of_ble_eq_true rfl, Or.inl rfl, Or.inl q1628⟩
theorem fl_X3_151 : ch_fl RX3 151 3 81 := ⟨(RX3, TX3, 109), "ClassHouseModel", rfl, Nat.le_of_ble_eq_true rfl, Or.inl rfl, Or.inl q1629⟩
theorem fl_X3_551 : ch_fl RX3 551 3 82 := ⟨(RX3, TX3, 109), "ClassHouseModel", rfl, Nat.le_of_ble_eq_true rfl, Or.inl rfl, Or.inl q1630⟩
theorem fl_X3_154 : ch_fl RX3 154 3 83 := ⟨(RX3, TX3, 109), "ClassHouseModel", rfl, Nat.le_of_ble_eq_true rfl, Or.inl rfl, Or.inl q1631⟩
theorem fl_X3_157 : ch_fl RX3 157 3 84 := ⟨(RX3, TX3, 109), "ClassHouseModel", rfl, Nat.le_of_ble_eq_true rfl, Or.inl rfl, Or.inl q1632⟩
theorem fl_X3_160 : ch_fl RX3 160 3 85 := ⟨(RX3, TX3, 109), "ClassHouseModel", rfl, Nat.le_of_ble_eq_true rfl, Or.inl rfl, Or.inl q1633⟩
theorem fl_X3_163 : ch_fl RX3 163 3 86 := ⟨(RX3, TX3, 109), "ClassHouseModel", rfl, Nat.le_of_ble_eq_true rfl, Or.inl rfl, Or.inl q1634⟩
theorem fl_X3_166 : ch_fl RX3 166 3 87 := ⟨(RX3, TX3, 109), "ClassHouseModel", rfl, Nat.le_of_ble_eq_true rfl, Or.inl rfl, Or.inl q1635⟩
theorem fl_X3_169 : ch_fl RX3 169 3 88 := ⟨(RX3, TX3, 109), "ClassHouseModel", rfl, Nat.le_of_ble_eq_true rfl, Or.inl rfl, Or.inl q1636⟩
theorem fl_X3_548 : ch_fl RX3 548 3 89 := ⟨(RX3, TX3, 109), "ClassHouseModel", rfl, Nat.le_of_ble_eq_true rfl, Or.inl rfl, Or.inl q1637⟩
theorem fl_X3_566 : ch_fl RX3 566 3 90 := ⟨(RX3, TX3, 109), "ClassHouseModel", rfl, Nat.le_of_ble_eq_true rfl, Or.inl rfl, Or.inl q1638⟩
theorem fl_X3_172 : ch_fl RX3 172 3 91 := ⟨(RX3, TX3, 109), "ClassHouseModel", rfl, Nat.le_of_ble_eq_true rfl, Or.inl rfl, Or.inl q1639⟩
theorem fl_X3_175 : ch_fl RX3 175 3 92 := ⟨(RX3, TX3, 109), "ClassHouseModel", rfl, Nat.le_of_ble_eq_true rfl, Or.inl rfl, Or.inl q1640⟩
theorem fl_X3_554 : ch_fl RX3 554 3 93 := ⟨(RX3, TX3, 109), "ClassHouseModel", rfl, Nat.le_of_ble_eq_true rfl, Or.inl rfl, Or.inl q1641⟩
theorem fl_X3_178 : ch_fl RX3 178 3 94 := ⟨(RX3, TX3, 109), "ClassHouseModel", rfl, Nat.le_of_ble_eq_true rfl, Or.inl rfl, Or.inl q1642⟩
theorem fl_X3_181 : ch_fl RX3 181 3 95 := ⟨(RX3, TX3, 109), "ClassHouseModel", rfl, Nat.le_of_ble_eq_true rfl, Or.inl rfl, Or.inl q1643⟩
theorem fl_X3_184 : ch_fl RX3 184 3 96 := ⟨(RX3, TX3, 109), "ClassHouseModel", rfl, Nat.le_of_ble_eq_true rfl, Or.inl rfl, Or.inl q1644⟩
theorem fl_X3_187 : ch_fl RX3 187 3 97 := ⟨(RX3, TX3, 109), "ClassHouseModel", rfl, Nat.le_of_ble_eq_true rfl, Or.inl rfl, Or.inl q1645⟩
theorem fl_X3_191 : ch_fl RX3 191 3 98 := ⟨(RX3, TX3, 109), "ClassHouseModel", rfl, Nat.le_of_ble_eq_true rfl, Or.inl rfl, Or.inl q1646⟩
theorem fl_X3_194 : ch_fl RX3 194 3 99 := ⟨(RX3, TX3, 109), "ClassHouseModel", rfl, Nat.le_of_ble_eq_true rfl, Or.inl rfl, Or.inl q1647⟩
theorem fl_X3_560 : ch_fl RX3 560 3 100 := ⟨(RX3, TX3, 109), "ClassHouseModel", rfl, Nat.le_of_ble_eq_true rfl, Or.inl rfl, Or.inl q1648⟩
theorem fl_X3_198 : ch_fl RX3 198 3 101 := ⟨(RX3, TX3, 109), "ClassHouseModel", rfl, Nat.le_of_ble_eq_true rfl, Or.inl rfl, Or.inl q1649⟩
theorem fl_X3_201 : ch_fl RX3 201 3 102 := ⟨(RX3, TX3, 109), "ClassHouseModel", rfl, Nat.le_of_ble_eq_true rfl, Or.inl rfl, Or.inl q1650⟩
theorem fl_X3_584 : ch_fl RX3 584 3 103 := ⟨(RX3, TX3, 109), "ClassHouseModel", rfl, Nat.le_of_ble_eq_true rfl, Or.inl rfl, Or.inl q1651⟩
theorem fl_X3_205 : ch_fl RX3 205 3 104 := ⟨(RX3, TX3, 109), "ClassHouseModel", rfl, Nat.le_of_ble_eq_true rfl, Or.inl rfl, Or.inl q1652⟩
theorem fl_X3_208 : ch_fl RX3 208 3 105 := ⟨(RX3, TX3, 109), "ClassHouseModel", rfl, Nat.le_of_ble_eq_true rfl, Or.inl rfl, Or.inl q1653⟩
theorem fl_X3_593 : ch_fl RX3 593 3 106 := ⟨(RX3, TX3, 109), "ClassHouseModel", rfl, Nat.le_of_ble_eq_true rfl, Or.inl rfl, Or.inl q1654⟩
theorem fl_X3_211 : ch_fl RX3 211 3 107 := ⟨(RX3, TX3, 109), "ClassHouseModel", rfl, Nat.le_of_ble_eq_true rfl, Or.inl rfl, Or.inl q1655⟩
theorem fl_X3_214 : ch_fl RX3 214 3 108 := ⟨(RX3, TX3, 109), "ClassHouseModel", rfl, Nat.le_of_ble_eq_true rfl, Or.inl rfl, Or.inl q1656⟩
theorem fl_X4_21 : ch_fl RX4 21 4 0 := ⟨(RX4, TX4, 9), "ClassHouse$Reader", rfl, Nat.le_of_ble_eq_true rfl, Or.inl rfl, Or.inl q464⟩
theorem fl_X4_25 : ch_fl RX4 25 4 1 := ⟨(RX4, TX4, 9), "ClassHouse$Reader", rfl, Nat.le_of_ble_eq_true rfl, Or.inl rfl, Or.inl q465⟩
theorem fl_X4_40 : ch_fl RX4 40 4 2 := ⟨(RX4, TX4, 9), "ClassHouse$Reader", rfl, Nat.le_of_ble_eq_true rfl, Or.inl rfl, Or.inl q466⟩
theorem fl_X4_31 : ch_fl RX4 31 4 3 := ⟨(RX4, TX4, 9), "ClassHouse$Reader", rfl, Nat.le_of_ble_eq_true rfl, Or.inl rfl, Or.inl q467⟩
theorem fl_X4_37 : ch_fl RX4 37 4 4 := ⟨(RX4, TX4, 9), "ClassHouse$Reader", rfl, Nat.le_of_ble_eq_true rfl, Or.inl rfl, Or.inl q468⟩
theorem fl_X4_82 : ch_fl RX4 82 4 5 := ⟨(RX4, TX4, 9), "ClassHouse$Reader", rfl, Nat.le_of_ble_eq_true rfl, Or.inl rfl, Or.inl q469⟩
theorem fl_X4_12 : ch_fl RX4 12 4 6 := ⟨(RX4, TX4, 9), "ClassHouse$Reader", rfl, Nat.le_of_ble_eq_true rfl, Or.inl rfl, Or.inl q470⟩
theorem fl_X4_18 : ch_fl RX4 18 4 7 := ⟨(RX4, TX4, 9), "ClassHouse$Reader", rfl, Nat.le_of_ble_eq_true rfl, Or.inl rfl, Or.inl q471⟩
theorem fl_X4_196 : ch_fl RX4 196 4 8 := ⟨(RX4, TX4, 9), "ClassHouse$Reader", rfl, Nat.le_of_ble_eq_true rfl, Or.inl rfl, Or.inl q473⟩
theorem fl_X4_129 : ch_fl RX4 129 6 2 := ⟨(RX6, TX6, 8), "ClassHouse$Kind", rfl, Nat.le_of_ble_eq_true rfl, Or.inl rfl, Or.inr ⟨_, q701⟩⟩
theorem fl_X4_139 : ch_fl RX4 139 6 5 := ⟨(RX6, TX6, 8), "ClassHouse$Kind", rfl, Nat.le_of_ble_eq_true rfl, Or.inl rfl, Or.inr ⟨_, q710⟩⟩
theorem fl_X4_178 : ch_fl RX4 178 8 1 := ⟨(RX8, TX8, 2), "ClassHouse$Row", rfl, Nat.le_of_ble_eq_true rfl, Or.inl rfl, Or.inr ⟨_, q777⟩⟩
theorem fl_X4_184 : ch_fl RX4 184 7 4 := ⟨(RX7, TX7, 12), "ClassHouse$Member", rfl, Nat.le_of_ble_eq_true rfl, Or.inl rfl, Or.inr ⟨_, q797⟩⟩
theorem fl_X4_175 : ch_fl RX4 175 7 5 := ⟨(RX7, TX7, 12), "ClassHouse$Member", rfl, Nat.le_of_ble_eq_true rfl, Or.inl rfl, Or.inr ⟨_, q800⟩⟩
theorem fl_X4_193 : ch_fl RX4 193 7 6 := ⟨(RX7, TX7, 12), "ClassHouse$Member", rfl, Nat.le_of_ble_eq_true rfl, Or.inl rfl, Or.inr ⟨_, q802⟩⟩
theorem fl_X4_199 : ch_fl RX4 199 7 7 := ⟨(RX7, TX7, 12), "ClassHouse$Member", rfl, Nat.le_of_ble_eq_true rfl, Or.inl rfl, Or.inr ⟨_, q804⟩⟩
theorem fl_X4_232 : ch_fl RX4 232 9 0 := ⟨(RX9, TX9, 8), "ClassHouse$Statement", rfl, Nat.le_of_ble_eq_true rfl, Or.inl rfl, Or.inr ⟨_, q875⟩⟩
theorem fl_X4_253 : ch_fl RX4 253 9 2 := ⟨(RX9, TX9, 8), "ClassHouse$Statement", rfl, Nat.le_of_ble_eq_true rfl, Or.inl rfl, Or.inr ⟨_, q879⟩⟩
theorem fl_X4_255 : ch_fl RX4 255 9 3 := ⟨(RX9, TX9, 8), "ClassHouse$Statement", rfl, Nat.le_of_ble_eq_true rfl, Or.inl rfl, Or.inr ⟨_, q881⟩⟩
theorem fl_X4_247 : ch_fl RX4 247 9 4 := ⟨(RX9, TX9, 8), "ClassHouse$Statement", rfl, Nat.le_of_ble_eq_true rfl, Or.inl rfl, Or.inr ⟨_, q883⟩⟩
theorem fl_X4_237 : ch_fl RX4 237 9 5 := ⟨(RX9, TX9, 8), "ClassHouse$Statement", rfl, Nat.le_of_ble_eq_true rfl, Or.inl rfl, Or.inr ⟨_, q885⟩⟩
theorem fl_X4_257 : ch_fl RX4 257 9 6 := ⟨(RX9, TX9, 8), "ClassHouse$Statement", rfl, Nat.le_of_ble_eq_true rfl, Or.inl rfl, Or.inr ⟨_, q886⟩⟩
theorem fl_X4_262 : ch_fl RX4 262 9 7 := ⟨(RX9, TX9, 8), "ClassHouse$Statement", rfl, Nat.le_of_ble_eq_true rfl, Or.inl rfl, Or.inr ⟨_, q889⟩⟩
theorem fl_X4_268 : ch_fl RX4 268 10 1 := ⟨(RX10, TX10, 6), "ClassHouse$Value", rfl, Nat.le_of_ble_eq_true rfl, Or.inl rfl, Or.inr ⟨_, q947⟩⟩
theorem fl_X4_271 : ch_fl RX4 271 10 2 := ⟨(RX10, TX10, 6), "ClassHouse$Value", rfl, Nat.le_of_ble_eq_true rfl, Or.inl rfl, Or.inr ⟨_, q949⟩⟩
theorem fl_X4_332 : ch_fl RX4 332 10 3 := ⟨(RX10, TX10, 6), "ClassHouse$Value", rfl, Nat.le_of_ble_eq_true rfl, Or.inl rfl, Or.inr ⟨_, q951⟩⟩
theorem fl_X4_325 : ch_fl RX4 325 10 4 := ⟨(RX10, TX10, 6), "ClassHouse$Value", rfl, Nat.le_of_ble_eq_true rfl, Or.inl rfl, Or.inr ⟨_, q954⟩⟩
theorem fl_X4_359 : ch_fl RX4 359 10 5 := ⟨(RX10, TX10, 6), "ClassHouse$Value", rfl, Nat.le_of_ble_eq_true rfl, Or.inl rfl, Or.inr ⟨_, q957⟩⟩
theorem fl_X5_7 : ch_fl RX5 7 5 6 := ⟨(RX5, TX5, 7), "ClassHouse$Refused", rfl, Nat.le_of_ble_eq_true rfl, Or.inl rfl, Or.inl q578⟩
theorem fl_X6_20 : ch_fl RX6 20 6 0 := ⟨(RX6, TX6, 8), "ClassHouse$Kind", rfl, Nat.le_of_ble_eq_true rfl, Or.inl rfl, Or.inl q695⟩
theorem fl_X6_23 : ch_fl RX6 23 6 1 := ⟨(RX6, TX6, 8), "ClassHouse$Kind", rfl, Nat.le_of_ble_eq_true rfl, Or.inl rfl, Or.inl q697⟩
theorem fl_X6_7 : ch_fl RX6 7 6 2 := ⟨(RX6, TX6, 8), "ClassHouse$Kind", rfl, Nat.le_of_ble_eq_true rfl, Or.inl rfl, Or.inl q699⟩
theorem fl_X6_45 : ch_fl RX6 45 6 3 := ⟨(RX6, TX6, 8), "ClassHouse$Kind", rfl, Nat.le_of_ble_eq_true rfl, Or.inl rfl, Or.inl q702⟩
theorem fl_X6_16 : ch_fl RX6 16 6 5 := ⟨(RX6, TX6, 8), "ClassHouse$Kind", rfl, Nat.le_of_ble_eq_true rfl, Or.inl rfl, Or.inl q707⟩
theorem fl_X6_49 : ch_fl RX6 49 6 6 := ⟨(RX6, TX6, 8), "ClassHouse$Kind", rfl, Nat.le_of_ble_eq_true rfl, Or.inl rfl, Or.inl q711⟩
theorem fl_X6_36 : ch_fl RX6 36 7 0 := ⟨(RX7, TX7, 12), "ClassHouse$Member", rfl, Nat.le_of_ble_eq_true rfl, Or.inl rfl, Or.inr ⟨_, q785⟩⟩
theorem fl_X6_40 : ch_fl RX6 40 7 2 := ⟨(RX7, TX7, 12), "ClassHouse$Member", rfl, Nat.le_of_ble_eq_true rfl, Or.inl rfl, Or.inr ⟨_, q791⟩⟩
theorem fl_X7_22 : ch_fl RX7 22 7 0 := ⟨(RX7, TX7, 12), "ClassHouse$Member", rfl, Nat.le_of_ble_eq_true rfl, Or.inl rfl, Or.inl q784⟩
theorem fl_X7_26 : ch_fl RX7 26 7 1 := ⟨(RX7, TX7, 12), "ClassHouse$Member", rfl, Nat.le_of_ble_eq_true rfl, Or.inl rfl, Or.inl q788⟩
theorem fl_X7_30 : ch_fl RX7 30 7 2 := ⟨(RX7, TX7, 12), "ClassHouse$Member", rfl, Nat.le_of_ble_eq_true rfl, Or.inl rfl, Or.inl q790⟩
theorem fl_X7_33 : ch_fl RX7 33 7 3 := ⟨(RX7, TX7, 12), "ClassHouse$Member", rfl, Nat.le_of_ble_eq_true rfl, Or.inl rfl, Or.inl q793⟩
theorem fl_X7_10 : ch_fl RX7 10 7 4 := ⟨(RX7, TX7, 12), "ClassHouse$Member", rfl, Nat.le_of_ble_eq_true rfl, Or.inl rfl, Or.inl q795⟩
theorem fl_X7_16 : ch_fl RX7 16 7 5 := ⟨(RX7, TX7, 12), "ClassHouse$Member", rfl, Nat.le_of_ble_eq_true rfl, Or.inl rfl, Or.inl q798⟩
theorem fl_X7_19 : ch_fl RX7 19 7 10 := ⟨(RX7, TX7, 12), "ClassHouse$Member", rfl, Nat.le_of_ble_eq_true rfl, Or.inl rfl, Or.inl q809⟩
theorem fl_X8_7 : ch_fl RX8 7 8 0 := ⟨(RX8, TX8, 2), "ClassHouse$Row", rfl, Nat.le_of_ble_eq_true rfl, Or.inl rfl, Or.inl q773⟩
theorem fl_X8_13 : ch_fl RX8 13 8 1 := ⟨(RX8, TX8, 2), "ClassHouse$Row", rfl, Nat.le_of_ble_eq_true rfl, Or.inl rfl, Or.inl q775⟩
theorem fl_X9_7 : ch_fl RX9 7 9 0 := ⟨(RX9, TX9, 8), "ClassHouse$Statement", rfl, Nat.le_of_ble_eq_true rfl, Or.inl rfl, Or.inl q873⟩
theorem fl_X9_13 : ch_fl RX9 13 9 1 := ⟨(RX9, TX9, 8), "ClassHouse$Statement", rfl, Nat.le_of_ble_eq_true rfl, Or.inl rfl, Or.inl q876⟩
