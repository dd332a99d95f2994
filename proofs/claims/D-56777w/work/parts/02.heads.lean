set_option maxRecDepth 100000
def RX0 : String := "ReorderiumLaw"
abbrev cX0_add : ByteArray := method_3_code
def yX0_add : MethodName := ⟨RX0, "add", "(LReorderium;IIIII[J)I"⟩
abbrev cX0_setRegister : ByteArray := method_4_code
def yX0_setRegister : MethodName := ⟨RX0, "setRegister", "(LReorderium;II[J)I"⟩
abbrev cX0_setWord : ByteArray := method_5_code
def yX0_setWord : MethodName := ⟨RX0, "setWord", "(LReorderium;II[J)I"⟩
abbrev cX0_setWidth : ByteArray := method_6_code
def yX0_setWidth : MethodName := ⟨RX0, "setWidth", "(LReorderium;I[J)I"⟩
abbrev cX0_setBuffer : ByteArray := method_7_code
def yX0_setBuffer : MethodName := ⟨RX0, "setBuffer", "(LReorderium;I[J)I"⟩
abbrev cX0_setQueue : ByteArray := method_8_code
def yX0_setQueue : MethodName := ⟨RX0, "setQueue", "(LReorderium;I[J)I"⟩
abbrev cX0_setInner : ByteArray := method_9_code
def yX0_setInner : MethodName := ⟨RX0, "setInner", "(LReorderium;I[J)I"⟩
abbrev cX0_setHandlers : ByteArray := method_10_code
def yX0_setHandlers : MethodName := ⟨RX0, "setHandlers", "(LReorderium;II[J)I"⟩
abbrev cX0_setTime : ByteArray := method_11_code
def yX0_setTime : MethodName := ⟨RX0, "setTime", "(LReorderium;II[J)I"⟩
abbrev cX0_run : ByteArray := method_12_code
def yX0_run : MethodName := ⟨RX0, "run", "(LReorderium;I[J)I"⟩
abbrev cX0_kindAt : ByteArray := method_13_code
def yX0_kindAt : MethodName := ⟨RX0, "kindAt", "(LReorderium;I[J)I"⟩
abbrev cX0_placeAt : ByteArray := method_14_code
def yX0_placeAt : MethodName := ⟨RX0, "placeAt", "(LReorderium;I[J)I"⟩
abbrev cX0_kindByPlain : ByteArray := method_15_code
def yX0_kindByPlain : MethodName := ⟨RX0, "kindByPlain", "(LReorderium;I[J)I"⟩
abbrev cX0_placeByPlain : ByteArray := method_16_code
def yX0_placeByPlain : MethodName := ⟨RX0, "placeByPlain", "(LReorderium;I[J)I"⟩
abbrev cX0_register : ByteArray := method_17_code
def yX0_register : MethodName := ⟨RX0, "register", "(LReorderium;I[J)I"⟩
abbrev cX0_registerByPlain : ByteArray := method_18_code
def yX0_registerByPlain : MethodName := ⟨RX0, "registerByPlain", "(LReorderium;I[J)I"⟩
abbrev cX0_word : ByteArray := method_19_code
def yX0_word : MethodName := ⟨RX0, "word", "(LReorderium;I[J)I"⟩
abbrev cX0_wordByPlain : ByteArray := method_20_code
def yX0_wordByPlain : MethodName := ⟨RX0, "wordByPlain", "(LReorderium;I[J)I"⟩
abbrev cX0_kept : ByteArray := method_21_code
def yX0_kept : MethodName := ⟨RX0, "kept", "(LReorderium;[J)I"⟩
abbrev cX0_life : ByteArray := method_22_code
def yX0_life : MethodName := ⟨RX0, "life", "(LReorderium;II[J)I"⟩
abbrev cX0_inner : ByteArray := method_23_code
def yX0_inner : MethodName := ⟨RX0, "inner", "(LReorderium;I[J)I"⟩
abbrev cX0_innerAnew : ByteArray := method_24_code
def yX0_innerAnew : MethodName := ⟨RX0, "innerAnew", "(LReorderium;I[J)I"⟩
abbrev cX0_stateOf : ByteArray := method_25_code
def yX0_stateOf : MethodName := ⟨RX0, "stateOf", "(LReorderium;I[J)I"⟩
abbrev cX0_isReady : ByteArray := method_26_code
def yX0_isReady : MethodName := ⟨RX0, "isReady", "(LReorderium;I[J)I"⟩
abbrev cX0_freeAt : ByteArray := method_27_code
def yX0_freeAt : MethodName := ⟨RX0, "freeAt", "(LReorderium;I[J)I"⟩
abbrev cX0_bufferAt : ByteArray := method_28_code
def yX0_bufferAt : MethodName := ⟨RX0, "bufferAt", "(LReorderium;I[J)I"⟩
abbrev cX0_stageAt : ByteArray := method_29_code
def yX0_stageAt : MethodName := ⟨RX0, "stageAt", "(LReorderium;I[J)I"⟩
abbrev cX0_fetching : ByteArray := method_30_code
def yX0_fetching : MethodName := ⟨RX0, "fetching", "(LReorderium;[J)I"⟩
abbrev cX0_returnAt : ByteArray := method_31_code
def yX0_returnAt : MethodName := ⟨RX0, "returnAt", "(LReorderium;I[J)I"⟩
abbrev cX0_counter : ByteArray := method_32_code
def yX0_counter : MethodName := ⟨RX0, "counter", "(LReorderium;I[J)I"⟩
abbrev cX0_isMarked : ByteArray := method_33_code
def yX0_isMarked : MethodName := ⟨RX0, "isMarked", "(LReorderium;I[J)I"⟩
abbrev cX0_lineAt : ByteArray := method_34_code
def yX0_lineAt : MethodName := ⟨RX0, "lineAt", "(LReorderium;I[J)I"⟩
abbrev cX0_lost : ByteArray := method_35_code
def yX0_lost : MethodName := ⟨RX0, "lost", "(LReorderium;C[J)I"⟩
abbrev cX0_share : ByteArray := method_36_code
def yX0_share : MethodName := ⟨RX0, "share", "(LReorderium;[D)I"⟩
def RX1 : String := "Reorderium"
def TX1 : u_T := fun k => match k with
  | 0 => ("Reorderium", "program", "Ljava/util/List;", true)
  | 1 => ("Reorderium", "firstRegisters", "[I", true)
  | 2 => ("Reorderium", "firstWords", "[I", true)
  | 3 => ("Reorderium", "words", "[I", true)
  | 4 => ("Reorderium", "handling", "LReorderium$Handling;", true)
  | 5 => ("Reorderium", "width", "I", false)
  | 6 => ("Reorderium", "bufferSize", "I", false)
  | 7 => ("Reorderium", "queueSize", "I", false)
  | 8 => ("Reorderium", "innerMany", "I", false)
  | 9 => ("Reorderium", "values", "[I", true)
  | 10 => ("Reorderium", "ready", "Ljava/util/BitSet;", true)
  | 11 => ("Reorderium", "map", "[I", true)
  | 12 => ("Reorderium", "retiredMap", "[I", true)
  | 13 => ("Reorderium", "free", "Ljava/util/ArrayDeque;", true)
  | 14 => ("Reorderium", "fetched", "Ljava/util/ArrayDeque;", true)
  | 15 => ("Reorderium", "buffer", "Ljava/util/LinkedList;", true)
  | 16 => ("Reorderium", "queue", "Ljava/util/LinkedList;", true)
  | 17 => ("Reorderium", "fetchPlace", "I", false)
  | 18 => ("Reorderium", "lastAge", "J", false)
  | 19 => ("Reorderium", "returns", "[I", false)
  | 20 => ("Reorderium", "counters", "[I", true)
  | 21 => ("Reorderium", "targets", "[I", true)
  | 22 => ("Reorderium", "marks", "Ljava/util/BitSet;", true)
  | 23 => ("Reorderium", "times", "[I", true)
  | 24 => ("Reorderium", "lines", "[I", true)
  | 25 => ("Reorderium", "asked", "Ljava/util/LinkedList;", true)
  | 26 => ("Reorderium", "cycle", "I", false)
  | 27 => ("Reorderium", "nextPlace", "I", false)
  | 28 => ("Reorderium", "isInterruptAsked", "Z", false)
  | 29 => ("Reorderium", "hasStopped", "Z", false)
  | 30 => ("Reorderium", "ends", "Ljava/util/List;", true)
  | 31 => ("Reorderium", "lost", "[I", true)
  | 32 => ("Reorderium", "wrong", "I", false)
  | 33 => ("Reorderium", "early", "I", false)
  | 34 => ("Reorderium", "thrown", "I", false)
  | 35 => ("Reorderium", "taken", "I", false)
  | _ => ("Reorderium", "read", "J", false)
def tyX1 : Nat → FieldType := fun k => match k with
  | 0 => .object "java/util/List"
  | 1 => .array .int
  | 2 => .array .int
  | 3 => .array .int
  | 4 => .object "Reorderium$Handling"
  | 5 => .int
  | 6 => .int
  | 7 => .int
  | 8 => .int
  | 9 => .array .int
  | 10 => .object "java/util/BitSet"
  | 11 => .array .int
  | 12 => .array .int
  | 13 => .object "java/util/ArrayDeque"
  | 14 => .object "java/util/ArrayDeque"
  | 15 => .object "java/util/LinkedList"
  | 16 => .object "java/util/LinkedList"
  | 17 => .int
  | 18 => .long
  | 19 => .array .int
  | 20 => .array .int
  | 21 => .array .int
  | 22 => .object "java/util/BitSet"
  | 23 => .array .int
  | 24 => .array .int
  | 25 => .object "java/util/LinkedList"
  | 26 => .int
  | 27 => .int
  | 28 => .boolean
  | 29 => .boolean
  | 30 => .object "java/util/List"
  | 31 => .array .int
  | 32 => .int
  | 33 => .int
  | 34 => .int
  | 35 => .int
  | _ => .long
abbrev wsX10 : List Cond := u_ws RX1 TX1 37
set_option maxRecDepth 100000 in
theorem nmX1 : ∀ a, a < 37 → ∀ b, b < 37 → a ≠ b → (TX1 a).2.1 ≠ (TX1 b).2.1 := by decide +kernel
set_option maxRecDepth 100000 in
theorem tyX1_ok : ∀ k, k < 37 → parseFieldDescriptor (TX1 k).2.2.1 = some (tyX1 k) := by decide +kernel
abbrev cX1_init : ByteArray := prog_1_method_4_code
def yX1_init : MethodName := ⟨RX1, "<init>", "()V"⟩
abbrev cX1_freeFrom : ByteArray := prog_1_method_5_code
def yX1_freeFrom : MethodName := ⟨RX1, "freeFrom", "()V"⟩
abbrev cX1_interrupt : ByteArray := prog_1_method_60_code
def yX1_interrupt : MethodName := ⟨RX1, "interrupt", "()Z"⟩
abbrev cX1_cycle : ByteArray := prog_1_method_62_code
def yX1_cycle : MethodName := ⟨RX1, "cycle", "()I"⟩
abbrev cX1_hasStopped : ByteArray := prog_1_method_63_code
def yX1_hasStopped : MethodName := ⟨RX1, "hasStopped", "()Z"⟩
abbrev cX1_ends : ByteArray := prog_1_method_64_code
def yX1_ends : MethodName := ⟨RX1, "ends", "()I"⟩
abbrev cX1_free : ByteArray := prog_1_method_84_code
def yX1_free : MethodName := ⟨RX1, "free", "()I"⟩
abbrev cX1_inBuffer : ByteArray := prog_1_method_86_code
def yX1_inBuffer : MethodName := ⟨RX1, "inBuffer", "()I"⟩
abbrev cX1_inQueue : ByteArray := prog_1_method_90_code
def yX1_inQueue : MethodName := ⟨RX1, "inQueue", "()I"⟩
abbrev cX1_fetched : ByteArray := prog_1_method_91_code
def yX1_fetched : MethodName := ⟨RX1, "fetched", "()I"⟩
abbrev cX1_returns : ByteArray := prog_1_method_93_code
def yX1_returns : MethodName := ⟨RX1, "returns", "()I"⟩
abbrev cX1_asked : ByteArray := prog_1_method_98_code
def yX1_asked : MethodName := ⟨RX1, "asked", "()I"⟩
abbrev cX1_wrong : ByteArray := prog_1_method_100_code
def yX1_wrong : MethodName := ⟨RX1, "wrong", "()I"⟩
abbrev cX1_early : ByteArray := prog_1_method_101_code
def yX1_early : MethodName := ⟨RX1, "early", "()I"⟩
abbrev cX1_thrownAway : ByteArray := prog_1_method_102_code
def yX1_thrownAway : MethodName := ⟨RX1, "thrownAway", "()I"⟩
abbrev cX1_taken : ByteArray := prog_1_method_103_code
def yX1_taken : MethodName := ⟨RX1, "taken", "()I"⟩
abbrev cX1_hits : ByteArray := prog_1_method_104_code
def yX1_hits : MethodName := ⟨RX1, "hits", "()J"⟩
abbrev cX1_isSame : ByteArray := prog_1_method_106_code
def yX1_isSame : MethodName := ⟨RX1, "isSame", "()Z"⟩
abbrev cX1_plain : ByteArray := prog_1_method_68_code
def yX1_plain : MethodName := ⟨RX1, "plain", "()LReorderium$Plain;"⟩
abbrev cX1_follow : ByteArray := prog_1_method_69_code
def yX1_follow : MethodName := ⟨RX1, "follow", "(LReorderium$Plain;LReorderium$End;)I"⟩
abbrev cX1_isBetween : ByteArray := prog_1_method_1_code
def yX1_isBetween : MethodName := ⟨RX1, "isBetween", "(III)Z"⟩
abbrev cX1_isAddress : ByteArray := prog_1_method_2_code
def yX1_isAddress : MethodName := ⟨RX1, "isAddress", "(I)Z"⟩
abbrev cX1_isPlace : ByteArray := prog_1_method_3_code
def yX1_isPlace : MethodName := ⟨RX1, "isPlace", "(I)Z"⟩
abbrev cX1_isWhole : ByteArray := prog_1_method_107_code
def yX1_isWhole : MethodName := ⟨RX1, "isWhole", "()Z"⟩
abbrev cX1_has : ByteArray := prog_1_method_81_code
def yX1_has : MethodName := ⟨RX1, "has", "([II)Z"⟩
abbrev cX1_add : ByteArray := prog_1_method_51_code
def yX1_add : MethodName := ⟨RX1, "add", "(IIIII)I"⟩
abbrev cX1_isRegister : ByteArray := prog_1_method_10_code
def yX1_isRegister : MethodName := ⟨RX1, "isRegister", "(I)Z"⟩
abbrev cX1_checkArgument : ByteArray := prog_1_method_6_code
def yX1_checkArgument : MethodName := ⟨RX1, "checkArgument", "(Z)V"⟩
abbrev cX1_checkFresh : ByteArray := prog_1_method_11_code
def yX1_checkFresh : MethodName := ⟨RX1, "checkFresh", "()V"⟩
abbrev cX1_checkState : ByteArray := prog_1_method_7_code
def yX1_checkState : MethodName := ⟨RX1, "checkState", "(Z)V"⟩
abbrev cX1_setRegister : ByteArray := prog_1_method_52_code
def yX1_setRegister : MethodName := ⟨RX1, "setRegister", "(II)I"⟩
abbrev cX1_setWord : ByteArray := prog_1_method_53_code
def yX1_setWord : MethodName := ⟨RX1, "setWord", "(II)I"⟩
abbrev cX1_setWidth : ByteArray := prog_1_method_54_code
def yX1_setWidth : MethodName := ⟨RX1, "setWidth", "(I)I"⟩
abbrev cX1_setBuffer : ByteArray := prog_1_method_55_code
def yX1_setBuffer : MethodName := ⟨RX1, "setBuffer", "(I)I"⟩
abbrev cX1_setQueue : ByteArray := prog_1_method_56_code
def yX1_setQueue : MethodName := ⟨RX1, "setQueue", "(I)I"⟩
abbrev cX1_setInner : ByteArray := prog_1_method_57_code
def yX1_setInner : MethodName := ⟨RX1, "setInner", "(I)I"⟩
abbrev cX1_setHandlers : ByteArray := prog_1_method_58_code
def yX1_setHandlers : MethodName := ⟨RX1, "setHandlers", "(II)I"⟩
abbrev cX1_setTime : ByteArray := prog_1_method_59_code
def yX1_setTime : MethodName := ⟨RX1, "setTime", "(II)I"⟩
abbrev cX1_run : ByteArray := prog_1_method_61_code
def yX1_run : MethodName := ⟨RX1, "run", "(I)I"⟩
abbrev cX1_pass : ByteArray := prog_1_method_50_code
def yX1_pass : MethodName := ⟨RX1, "pass", "()V"⟩
abbrev cX1_answer : ByteArray := prog_1_method_12_code
def yX1_answer : MethodName := ⟨RX1, "answer", "()V"⟩
abbrev cX1_come : ByteArray := prog_1_method_13_code
def yX1_come : MethodName := ⟨RX1, "come", "(I)V"⟩
abbrev cX1_endAll : ByteArray := prog_1_method_15_code
def yX1_endAll : MethodName := ⟨RX1, "endAll", "()V"⟩
abbrev cX1_ending : ByteArray := prog_1_method_14_code
def yX1_ending : MethodName := ⟨RX1, "ending", "()Ljava/util/List;"⟩
abbrev cX1_endOne : ByteArray := prog_1_method_16_code
def yX1_endOne : MethodName := ⟨RX1, "endOne", "(LReorderium$Flight;)V"⟩
abbrev cX1_findResult : ByteArray := prog_1_method_17_code
def yX1_findResult : MethodName := ⟨RX1, "findResult", "(LReorderium$Flight;)V"⟩
abbrev cX1_endStore : ByteArray := prog_1_method_18_code
def yX1_endStore : MethodName := ⟨RX1, "endStore", "(LReorderium$Flight;)V"⟩
abbrev cX1_firstTooEarly : ByteArray := prog_1_method_19_code
def yX1_firstTooEarly : MethodName := ⟨RX1, "firstTooEarly", "(LReorderium$Flight;)LReorderium$Flight;"⟩
abbrev cX1_throwFrom : ByteArray := prog_1_method_22_code
def yX1_throwFrom : MethodName := ⟨RX1, "throwFrom", "(LReorderium$Flight;Z)V"⟩
abbrev cX1_undo : ByteArray := prog_1_method_23_code
def yX1_undo : MethodName := ⟨RX1, "undo", "(LReorderium$Flight;)V"⟩
abbrev cX1_endGoing : ByteArray := prog_1_method_20_code
def yX1_endGoing : MethodName := ⟨RX1, "endGoing", "(LReorderium$Flight;)V"⟩
abbrev cX1_writeResults : ByteArray := prog_1_method_21_code
def yX1_writeResults : MethodName := ⟨RX1, "writeResults", "()V"⟩
abbrev cX1_retireAll : ByteArray := prog_1_method_29_code
def yX1_retireAll : MethodName := ⟨RX1, "retireAll", "()V"⟩
abbrev cX1_takeInterrupt : ByteArray := prog_1_method_31_code
def yX1_takeInterrupt : MethodName := ⟨RX1, "takeInterrupt", "()V"⟩
abbrev cX1_throwAll : ByteArray := prog_1_method_24_code
def yX1_throwAll : MethodName := ⟨RX1, "throwAll", "()V"⟩
abbrev cX1_lose : ByteArray := prog_1_method_25_code
def yX1_lose : MethodName := ⟨RX1, "lose", "(C)V"⟩
abbrev cX1_canRetire : ByteArray := prog_1_method_28_code
def yX1_canRetire : MethodName := ⟨RX1, "canRetire", "(LReorderium$Flight;)Z"⟩
abbrev cX1_lacksWord : ByteArray := prog_1_method_27_code
def yX1_lacksWord : MethodName := ⟨RX1, "lacksWord", "(LReorderium$Flight;)Z"⟩
abbrev cX1_trapOf : ByteArray := prog_1_method_26_code
def yX1_trapOf : MethodName := ⟨RX1, "trapOf", "(LReorderium$Flight;)I"⟩
abbrev cX1_retire : ByteArray := prog_1_method_33_code
def yX1_retire : MethodName := ⟨RX1, "retire", "(LReorderium$Flight;)V"⟩
abbrev cX1_learn : ByteArray := prog_1_method_34_code
def yX1_learn : MethodName := ⟨RX1, "learn", "(LReorderium$Flight;)V"⟩
abbrev cX1_takeTrap : ByteArray := prog_1_method_32_code
def yX1_takeTrap : MethodName := ⟨RX1, "takeTrap", "(LReorderium$Flight;I)V"⟩
abbrev cX1_reasonNow : ByteArray := prog_1_method_30_code
def yX1_reasonNow : MethodName := ⟨RX1, "reasonNow", "()C"⟩
abbrev cX1_beginAll : ByteArray := prog_1_method_36_code
def yX1_beginAll : MethodName := ⟨RX1, "beginAll", "()V"⟩
abbrev cX1_isDividing : ByteArray := prog_1_method_35_code
def yX1_isDividing : MethodName := ⟨RX1, "isDividing", "()Z"⟩
abbrev cX1_hasOperands : ByteArray := prog_1_method_37_code
def yX1_hasOperands : MethodName := ⟨RX1, "hasOperands", "(LReorderium$Flight;)Z"⟩
abbrev cX1_begin : ByteArray := prog_1_method_38_code
def yX1_begin : MethodName := ⟨RX1, "begin", "(LReorderium$Flight;)Z"⟩
abbrev cX1_beginLoad : ByteArray := prog_1_method_39_code
def yX1_beginLoad : MethodName := ⟨RX1, "beginLoad", "(LReorderium$Flight;)Z"⟩
abbrev cX1_readLine : ByteArray := prog_1_method_42_code
def yX1_readLine : MethodName := ⟨RX1, "readLine", "(LReorderium$Flight;)Z"⟩
abbrev cX1_isAskedFor : ByteArray := prog_1_method_41_code
def yX1_isAskedFor : MethodName := ⟨RX1, "isAskedFor", "(I)Z"⟩
abbrev cX1_takeFrom : ByteArray := prog_1_method_40_code
def yX1_takeFrom : MethodName := ⟨RX1, "takeFrom", "(LReorderium$Flight;LReorderium$Flight;)Z"⟩
abbrev cX1_renameAll : ByteArray := prog_1_method_44_code
def yX1_renameAll : MethodName := ⟨RX1, "renameAll", "()V"⟩
abbrev cX1_canRename : ByteArray := prog_1_method_43_code
def yX1_canRename : MethodName := ⟨RX1, "canRename", "(LReorderium$Flight;)Z"⟩
abbrev cX1_rename : ByteArray := prog_1_method_45_code
def yX1_rename : MethodName := ⟨RX1, "rename", "(LReorderium$Flight;)V"⟩
abbrev cX1_fetchAll : ByteArray := prog_1_method_49_code
def yX1_fetchAll : MethodName := ⟨RX1, "fetchAll", "()V"⟩
abbrev cX1_guessFor : ByteArray := prog_1_method_48_code
def yX1_guessFor : MethodName := ⟨RX1, "guessFor", "(LReorderium$Instruction;I)I"⟩
abbrev cX1_push : ByteArray := prog_1_method_46_code
def yX1_push : MethodName := ⟨RX1, "push", "(I)V"⟩
abbrev cX1_pop : ByteArray := prog_1_method_47_code
def yX1_pop : MethodName := ⟨RX1, "pop", "(I)I"⟩
abbrev cX1_kindAt : ByteArray := prog_1_method_66_code
def yX1_kindAt : MethodName := ⟨RX1, "kindAt", "(I)I"⟩
abbrev cX1_endWith : ByteArray := prog_1_method_65_code
def yX1_endWith : MethodName := ⟨RX1, "endWith", "(I)LReorderium$End;"⟩
abbrev cX1_checkIndex : ByteArray := prog_1_method_9_code
def yX1_checkIndex : MethodName := ⟨RX1, "checkIndex", "(II)V"⟩
abbrev cX1_placeAt : ByteArray := prog_1_method_67_code
def yX1_placeAt : MethodName := ⟨RX1, "placeAt", "(I)I"⟩
abbrev cX1_kindByPlain : ByteArray := prog_1_method_71_code
def yX1_kindByPlain : MethodName := ⟨RX1, "kindByPlain", "(I)I"⟩
abbrev cX1_plainAhead : ByteArray := prog_1_method_70_code
def yX1_plainAhead : MethodName := ⟨RX1, "plainAhead", "(I)LReorderium$Plain;"⟩
abbrev cX1_placeByPlain : ByteArray := prog_1_method_72_code
def yX1_placeByPlain : MethodName := ⟨RX1, "placeByPlain", "(I)I"⟩
abbrev cX1_register : ByteArray := prog_1_method_73_code
def yX1_register : MethodName := ⟨RX1, "register", "(I)I"⟩
abbrev cX1_registerByPlain : ByteArray := prog_1_method_74_code
def yX1_registerByPlain : MethodName := ⟨RX1, "registerByPlain", "(I)I"⟩
abbrev cX1_word : ByteArray := prog_1_method_75_code
def yX1_word : MethodName := ⟨RX1, "word", "(I)I"⟩
abbrev cX1_wordByPlain : ByteArray := prog_1_method_76_code
def yX1_wordByPlain : MethodName := ⟨RX1, "wordByPlain", "(I)I"⟩
abbrev cX1_kept : ByteArray := prog_1_method_77_code
def yX1_kept : MethodName := ⟨RX1, "kept", "()I"⟩
abbrev cX1_checkElement : ByteArray := prog_1_method_8_code
def yX1_checkElement : MethodName := ⟨RX1, "checkElement", "(Z)V"⟩
abbrev cX1_life : ByteArray := prog_1_method_78_code
def yX1_life : MethodName := ⟨RX1, "life", "(II)I"⟩
abbrev cX1_inner : ByteArray := prog_1_method_79_code
def yX1_inner : MethodName := ⟨RX1, "inner", "(I)I"⟩
abbrev cX1_innerAnew : ByteArray := prog_1_method_80_code
def yX1_innerAnew : MethodName := ⟨RX1, "innerAnew", "(I)I"⟩
abbrev cX1_stateOf : ByteArray := prog_1_method_82_code
def yX1_stateOf : MethodName := ⟨RX1, "stateOf", "(I)C"⟩
abbrev cX1_isReady : ByteArray := prog_1_method_83_code
def yX1_isReady : MethodName := ⟨RX1, "isReady", "(I)Z"⟩
abbrev cX1_freeAt : ByteArray := prog_1_method_85_code
def yX1_freeAt : MethodName := ⟨RX1, "freeAt", "(I)I"⟩
abbrev cX1_bufferAt : ByteArray := prog_1_method_88_code
def yX1_bufferAt : MethodName := ⟨RX1, "bufferAt", "(I)I"⟩
abbrev cX1_flightAt : ByteArray := prog_1_method_87_code
def yX1_flightAt : MethodName := ⟨RX1, "flightAt", "(I)LReorderium$Flight;"⟩
abbrev cX1_stageAt : ByteArray := prog_1_method_89_code
def yX1_stageAt : MethodName := ⟨RX1, "stageAt", "(I)C"⟩
abbrev cX1_fetching : ByteArray := prog_1_method_92_code
def yX1_fetching : MethodName := ⟨RX1, "fetching", "()I"⟩
abbrev cX1_returnAt : ByteArray := prog_1_method_94_code
def yX1_returnAt : MethodName := ⟨RX1, "returnAt", "(I)I"⟩
abbrev cX1_counter : ByteArray := prog_1_method_95_code
def yX1_counter : MethodName := ⟨RX1, "counter", "(I)I"⟩
abbrev cX1_isMarked : ByteArray := prog_1_method_96_code
def yX1_isMarked : MethodName := ⟨RX1, "isMarked", "(I)Z"⟩
abbrev cX1_lineAt : ByteArray := prog_1_method_97_code
def yX1_lineAt : MethodName := ⟨RX1, "lineAt", "(I)I"⟩
abbrev cX1_lost : ByteArray := prog_1_method_99_code
def yX1_lost : MethodName := ⟨RX1, "lost", "(C)I"⟩
abbrev cX1_share : ByteArray := prog_1_method_105_code
def yX1_share : MethodName := ⟨RX1, "share", "()F"⟩
def RX2 : String := "Reorderium$Handling"
def TX2 : u_T := fun k => match k with
  | 0 => ("Reorderium$Handling", "forTraps", "I", false)
  | 1 => ("Reorderium$Handling", "forInterrupts", "I", false)
  | 2 => ("Reorderium$Handling", "isUnderWay", "Z", false)
  | _ => ("Reorderium$Handling", "kept", "I", false)
def tyX2 : Nat → FieldType := fun k => match k with
  | 0 => .int
  | 1 => .int
  | 2 => .boolean
  | _ => .int
abbrev wsX20 : List Cond := u_ws RX2 TX2 4
theorem nmX2 : ∀ a, a < 4 → ∀ b, b < 4 → a ≠ b → (TX2 a).2.1 ≠ (TX2 b).2.1 := by decide +kernel
theorem tyX2_ok : ∀ k, k < 4 → parseFieldDescriptor (TX2 k).2.2.1 = some (tyX2 k) := by decide +kernel
abbrev cX2_init : ByteArray := prog_6_method_1_code
def yX2_init : MethodName := ⟨RX2, "<init>", "()V"⟩
abbrev cX2_anew : ByteArray := prog_6_method_5_code
def yX2_anew : MethodName := ⟨RX2, "anew", "()LReorderium$Handling;"⟩
abbrev cX2_interrupt : ByteArray := prog_6_method_3_code
def yX2_interrupt : MethodName := ⟨RX2, "interrupt", "(I)I"⟩
abbrev cX2_trap : ByteArray := prog_6_method_2_code
def yX2_trap : MethodName := ⟨RX2, "trap", "(I)I"⟩
abbrev cX2_goBack : ByteArray := prog_6_method_4_code
def yX2_goBack : MethodName := ⟨RX2, "goBack", "()I"⟩
abbrev cX2_isSame : ByteArray := prog_6_method_6_code
def yX2_isSame : MethodName := ⟨RX2, "isSame", "(LReorderium$Handling;)Z"⟩
def RX3 : String := "ReorderiumModel"
def TX3 : u_T := fun k => match k with
  | 0 => ("ReorderiumModel", "codes", "[I", true)
  | 1 => ("ReorderiumModel", "ds", "[I", true)
  | 2 => ("ReorderiumModel", "as", "[I", true)
  | 3 => ("ReorderiumModel", "bs", "[I", true)
  | 4 => ("ReorderiumModel", "ns", "[I", true)
  | 5 => ("ReorderiumModel", "program", "I", false)
  | 6 => ("ReorderiumModel", "width", "I", false)
  | 7 => ("ReorderiumModel", "bufferMost", "I", false)
  | 8 => ("ReorderiumModel", "queueMost", "I", false)
  | 9 => ("ReorderiumModel", "inners", "I", false)
  | 10 => ("ReorderiumModel", "trapHandler", "I", false)
  | 11 => ("ReorderiumModel", "interruptHandler", "I", false)
  | 12 => ("ReorderiumModel", "firstRegisters", "[I", true)
  | 13 => ("ReorderiumModel", "firstWords", "[I", true)
  | 14 => ("ReorderiumModel", "times", "[I", true)
  | 15 => ("ReorderiumModel", "words", "[I", true)
  | 16 => ("ReorderiumModel", "map", "[I", true)
  | 17 => ("ReorderiumModel", "retiredMap", "[I", true)
  | 18 => ("ReorderiumModel", "values", "[I", true)
  | 19 => ("ReorderiumModel", "isReady", "[Z", true)
  | 20 => ("ReorderiumModel", "freeLine", "[I", true)
  | 21 => ("ReorderiumModel", "freeMany", "I", false)
  | 22 => ("ReorderiumModel", "buffer", "[[I", true)
  | 23 => ("ReorderiumModel", "inBuffer", "I", false)
  | 24 => ("ReorderiumModel", "line", "[[I", true)
  | 25 => ("ReorderiumModel", "inLine", "I", false)
  | 26 => ("ReorderiumModel", "fetchPlace", "I", false)
  | 27 => ("ReorderiumModel", "isHeld", "Z", false)
  | 28 => ("ReorderiumModel", "stack", "[I", true)
  | 29 => ("ReorderiumModel", "counters", "[I", true)
  | 30 => ("ReorderiumModel", "table", "[I", true)
  | 31 => ("ReorderiumModel", "marks", "[Z", true)
  | 32 => ("ReorderiumModel", "cached", "[I", true)
  | 33 => ("ReorderiumModel", "askedLines", "[I", true)
  | 34 => ("ReorderiumModel", "askedUntil", "[I", true)
  | 35 => ("ReorderiumModel", "asked", "I", false)
  | 36 => ("ReorderiumModel", "cycle", "I", false)
  | 37 => ("ReorderiumModel", "hasStopped", "Z", false)
  | 38 => ("ReorderiumModel", "isAsked", "Z", false)
  | 39 => ("ReorderiumModel", "isHandling", "Z", false)
  | 40 => ("ReorderiumModel", "kept", "I", false)
  | 41 => ("ReorderiumModel", "next", "I", false)
  | 42 => ("ReorderiumModel", "numbers", "I", false)
  | 43 => ("ReorderiumModel", "endKinds", "[I", true)
  | 44 => ("ReorderiumModel", "endPlaces", "[I", true)
  | 45 => ("ReorderiumModel", "lives", "[[I", true)
  | 46 => ("ReorderiumModel", "ends", "I", false)
  | 47 => ("ReorderiumModel", "lost", "[I", true)
  | 48 => ("ReorderiumModel", "wrong", "I", false)
  | 49 => ("ReorderiumModel", "early", "I", false)
  | 50 => ("ReorderiumModel", "gone", "I", false)
  | 51 => ("ReorderiumModel", "taken", "I", false)
  | 52 => ("ReorderiumModel", "there", "I", false)
  | 53 => ("ReorderiumModel", "asking", "I", false)
  | 54 => ("ReorderiumModel", "thrown", "I", false)
  | 55 => ("ReorderiumModel", "plainRegisters", "[I", true)
  | 56 => ("ReorderiumModel", "plainWords", "[I", true)
  | 57 => ("ReorderiumModel", "plainPlace", "I", false)
  | 58 => ("ReorderiumModel", "plainKept", "I", false)
  | 59 => ("ReorderiumModel", "plainHandling", "Z", false)
  | _ => ("ReorderiumModel", "plainStopped", "Z", false)
def tyX3 : Nat → FieldType := fun k => match k with
  | 0 => .array .int
  | 1 => .array .int
  | 2 => .array .int
  | 3 => .array .int
  | 4 => .array .int
  | 5 => .int
  | 6 => .int
  | 7 => .int
  | 8 => .int
  | 9 => .int
  | 10 => .int
  | 11 => .int
  | 12 => .array .int
  | 13 => .array .int
  | 14 => .array .int
  | 15 => .array .int
  | 16 => .array .int
  | 17 => .array .int
  | 18 => .array .int
  | 19 => .array .boolean
  | 20 => .array .int
  | 21 => .int
  | 22 => .array (.array .int)
  | 23 => .int
  | 24 => .array (.array .int)
  | 25 => .int
  | 26 => .int
  | 27 => .boolean
  | 28 => .array .int
  | 29 => .array .int
  | 30 => .array .int
  | 31 => .array .boolean
  | 32 => .array .int
  | 33 => .array .int
  | 34 => .array .int
  | 35 => .int
  | 36 => .int
  | 37 => .boolean
  | 38 => .boolean
  | 39 => .boolean
  | 40 => .int
  | 41 => .int
  | 42 => .int
  | 43 => .array .int
  | 44 => .array .int
  | 45 => .array (.array .int)
  | 46 => .int
  | 47 => .array .int
  | 48 => .int
  | 49 => .int
  | 50 => .int
  | 51 => .int
  | 52 => .int
  | 53 => .int
  | 54 => .int
  | 55 => .array .int
  | 56 => .array .int
  | 57 => .int
  | 58 => .int
  | 59 => .boolean
  | _ => .boolean
abbrev wsX30 : List Cond := u_ws RX3 TX3 61
set_option maxRecDepth 100000 in
theorem nmX3 : ∀ a, a < 61 → ∀ b, b < 61 → a ≠ b → (TX3 a).2.1 ≠ (TX3 b).2.1 := by decide +kernel
set_option maxRecDepth 100000 in
theorem tyX3_ok : ∀ k, k < 61 → parseFieldDescriptor (TX3 k).2.2.1 = some (tyX3 k) := by decide +kernel
abbrev cX3_init : ByteArray := prog_11_method_1_code
def yX3_init : MethodName := ⟨RX3, "<init>", "()V"⟩
abbrev cX3_laysFree : ByteArray := prog_11_method_5_code
def yX3_laysFree : MethodName := ⟨RX3, "laysFree", "()V"⟩
abbrev cX3_thrown : ByteArray := prog_11_method_2_code
def yX3_thrown : MethodName := ⟨RX3, "thrown", "()I"⟩
abbrev cX3_add : ByteArray := prog_11_method_6_code
def yX3_add : MethodName := ⟨RX3, "add", "(IIIII)I"⟩
abbrev cX3_in : ByteArray := prog_11_method_4_code
def yX3_in : MethodName := ⟨RX3, "in", "(III)Z"⟩
abbrev cX3_setRegister : ByteArray := prog_11_method_8_code
def yX3_setRegister : MethodName := ⟨RX3, "setRegister", "(II)I"⟩
abbrev cX3_cannot : ByteArray := prog_11_method_7_code
def yX3_cannot : MethodName := ⟨RX3, "cannot", "(Z)Z"⟩
abbrev cX3_setWord : ByteArray := prog_11_method_9_code
def yX3_setWord : MethodName := ⟨RX3, "setWord", "(II)I"⟩
abbrev cX3_setWidth : ByteArray := prog_11_method_10_code
def yX3_setWidth : MethodName := ⟨RX3, "setWidth", "(I)I"⟩
abbrev cX3_setBuffer : ByteArray := prog_11_method_11_code
def yX3_setBuffer : MethodName := ⟨RX3, "setBuffer", "(I)I"⟩
abbrev cX3_setQueue : ByteArray := prog_11_method_12_code
def yX3_setQueue : MethodName := ⟨RX3, "setQueue", "(I)I"⟩
abbrev cX3_setInner : ByteArray := prog_11_method_13_code
def yX3_setInner : MethodName := ⟨RX3, "setInner", "(I)I"⟩
abbrev cX3_setHandlers : ByteArray := prog_11_method_14_code
def yX3_setHandlers : MethodName := ⟨RX3, "setHandlers", "(II)I"⟩
abbrev cX3_setTime : ByteArray := prog_11_method_15_code
def yX3_setTime : MethodName := ⟨RX3, "setTime", "(II)I"⟩
abbrev cX3_interrupt : ByteArray := prog_11_method_16_code
def yX3_interrupt : MethodName := ⟨RX3, "interrupt", "()Z"⟩
abbrev cX3_run : ByteArray := prog_11_method_17_code
def yX3_run : MethodName := ⟨RX3, "run", "(I)I"⟩
abbrev cX3_cycles : ByteArray := prog_11_method_18_code
def yX3_cycles : MethodName := ⟨RX3, "cycles", "()V"⟩
abbrev cX3_answers : ByteArray := prog_11_method_39_code
def yX3_answers : MethodName := ⟨RX3, "answers", "()V"⟩
abbrev cX3_endings : ByteArray := prog_11_method_45_code
def yX3_endings : MethodName := ⟨RX3, "endings", "()V"⟩
abbrev cX3_ends : ByteArray := prog_11_method_44_code
def yX3_ends : MethodName := ⟨RX3, "ends", "(I)V"⟩
abbrev cX3_codeOf : ByteArray := prog_11_method_19_code
def yX3_codeOf : MethodName := ⟨RX3, "codeOf", "([I)I"⟩
abbrev cX3_hasD : ByteArray := prog_11_method_20_code
def yX3_hasD : MethodName := ⟨RX3, "hasD", "(I)Z"⟩
abbrev cX3_result : ByteArray := prog_11_method_41_code
def yX3_result : MethodName := ⟨RX3, "result", "([I)I"⟩
abbrev cX3_isStore : ByteArray := prog_11_method_22_code
def yX3_isStore : MethodName := ⟨RX3, "isStore", "(I)Z"⟩
abbrev cX3_isAddress : ByteArray := prog_11_method_24_code
def yX3_isAddress : MethodName := ⟨RX3, "isAddress", "(I)Z"⟩
abbrev cX3_wrongLoad : ByteArray := prog_11_method_43_code
def yX3_wrongLoad : MethodName := ⟨RX3, "wrongLoad", "(I)I"⟩
abbrev cX3_stackAs : ByteArray := prog_11_method_28_code
def yX3_stackAs : MethodName := ⟨RX3, "stackAs", "([II)V"⟩
abbrev cX3_goesOn : ByteArray := prog_11_method_30_code
def yX3_goesOn : MethodName := ⟨RX3, "goesOn", "(I)V"⟩
abbrev cX3_throwsFrom : ByteArray := prog_11_method_40_code
def yX3_throwsFrom : MethodName := ⟨RX3, "throwsFrom", "(I)V"⟩
abbrev cX3_finds : ByteArray := prog_11_method_42_code
def yX3_finds : MethodName := ⟨RX3, "finds", "([II)V"⟩
abbrev cX3_retires : ByteArray := prog_11_method_51_code
def yX3_retires : MethodName := ⟨RX3, "retires", "()V"⟩
abbrev cX3_tellsEnd : ByteArray := prog_11_method_46_code
def yX3_tellsEnd : MethodName := ⟨RX3, "tellsEnd", "(II[I)V"⟩
abbrev cX3_isQueued : ByteArray := prog_11_method_21_code
def yX3_isQueued : MethodName := ⟨RX3, "isQueued", "(I)Z"⟩
abbrev cX3_handles : ByteArray := prog_11_method_47_code
def yX3_handles : MethodName := ⟨RX3, "handles", "(II)V"⟩
abbrev cX3_loses : ByteArray := prog_11_method_53_code
def yX3_loses : MethodName := ⟨RX3, "loses", "(C)V"⟩
abbrev cX3_reason : ByteArray := prog_11_method_52_code
def yX3_reason : MethodName := ⟨RX3, "reason", "(C)I"⟩
abbrev cX3_traps : ByteArray := prog_11_method_48_code
def yX3_traps : MethodName := ⟨RX3, "traps", "([II)V"⟩
abbrev cX3_leaves : ByteArray := prog_11_method_49_code
def yX3_leaves : MethodName := ⟨RX3, "leaves", "()V"⟩
abbrev cX3_retire : ByteArray := prog_11_method_50_code
def yX3_retire : MethodName := ⟨RX3, "retire", "([I)V"⟩
abbrev cX3_begins : ByteArray := prog_11_method_38_code
def yX3_begins : MethodName := ⟨RX3, "begins", "()V"⟩
abbrev cX3_hasOperands : ByteArray := prog_11_method_34_code
def yX3_hasOperands : MethodName := ⟨RX3, "hasOperands", "([II)Z"⟩
abbrev cX3_starts : ByteArray := prog_11_method_35_code
def yX3_starts : MethodName := ⟨RX3, "starts", "([II)V"⟩
abbrev cX3_loads : ByteArray := prog_11_method_37_code
def yX3_loads : MethodName := ⟨RX3, "loads", "(I)Z"⟩
abbrev cX3_isAskedFor : ByteArray := prog_11_method_36_code
def yX3_isAskedFor : MethodName := ⟨RX3, "isAskedFor", "(I)Z"⟩
abbrev cX3_renames : ByteArray := prog_11_method_33_code
def yX3_renames : MethodName := ⟨RX3, "renames", "()V"⟩
abbrev cX3_canRename : ByteArray := prog_11_method_32_code
def yX3_canRename : MethodName := ⟨RX3, "canRename", "(I)Z"⟩
abbrev cX3_isAlone : ByteArray := prog_11_method_23_code
def yX3_isAlone : MethodName := ⟨RX3, "isAlone", "(I)Z"⟩
abbrev cX3_inQueueNow : ByteArray := prog_11_method_31_code
def yX3_inQueueNow : MethodName := ⟨RX3, "inQueueNow", "()I"⟩
abbrev cX3_fetches : ByteArray := prog_11_method_29_code
def yX3_fetches : MethodName := ⟨RX3, "fetches", "()V"⟩
abbrev cX3_keepsStack : ByteArray := prog_11_method_27_code
def yX3_keepsStack : MethodName := ⟨RX3, "keepsStack", "([II)V"⟩
abbrev cX3_guess : ByteArray := prog_11_method_25_code
def yX3_guess : MethodName := ⟨RX3, "guess", "(I)I"⟩
abbrev cX3_pushes : ByteArray := prog_11_method_26_code
def yX3_pushes : MethodName := ⟨RX3, "pushes", "(I)V"⟩
abbrev cX3_cycle : ByteArray := prog_11_method_54_code
def yX3_cycle : MethodName := ⟨RX3, "cycle", "()I"⟩
abbrev cX3_hasStopped : ByteArray := prog_11_method_55_code
def yX3_hasStopped : MethodName := ⟨RX3, "hasStopped", "()Z"⟩
abbrev cX3_ends_2 : ByteArray := prog_11_method_56_code
def yX3_ends_2 : MethodName := ⟨RX3, "ends", "()I"⟩
abbrev cX3_kindAt : ByteArray := prog_11_method_58_code
def yX3_kindAt : MethodName := ⟨RX3, "kindAt", "(I)I"⟩
abbrev cX3_noEnd : ByteArray := prog_11_method_57_code
def yX3_noEnd : MethodName := ⟨RX3, "noEnd", "(I)Z"⟩
abbrev cX3_placeAt : ByteArray := prog_11_method_59_code
def yX3_placeAt : MethodName := ⟨RX3, "placeAt", "(I)I"⟩
abbrev cX3_kindByPlain : ByteArray := prog_11_method_64_code
def yX3_kindByPlain : MethodName := ⟨RX3, "kindByPlain", "(I)I"⟩
abbrev cX3_plain : ByteArray := prog_11_method_63_code
def yX3_plain : MethodName := ⟨RX3, "plain", "(I)[I"⟩
abbrev cX3_plainTrap : ByteArray := prog_11_method_61_code
def yX3_plainTrap : MethodName := ⟨RX3, "plainTrap", "(I)I"⟩
abbrev cX3_address : ByteArray := prog_11_method_60_code
def yX3_address : MethodName := ⟨RX3, "address", "(I)I"⟩
abbrev cX3_plainDoes : ByteArray := prog_11_method_62_code
def yX3_plainDoes : MethodName := ⟨RX3, "plainDoes", "(I)V"⟩
abbrev cX3_placeByPlain : ByteArray := prog_11_method_65_code
def yX3_placeByPlain : MethodName := ⟨RX3, "placeByPlain", "(I)I"⟩
abbrev cX3_register : ByteArray := prog_11_method_66_code
def yX3_register : MethodName := ⟨RX3, "register", "(I)I"⟩
abbrev cX3_registerByPlain : ByteArray := prog_11_method_67_code
def yX3_registerByPlain : MethodName := ⟨RX3, "registerByPlain", "(I)I"⟩
abbrev cX3_word : ByteArray := prog_11_method_68_code
def yX3_word : MethodName := ⟨RX3, "word", "(I)I"⟩
abbrev cX3_wordByPlain : ByteArray := prog_11_method_69_code
def yX3_wordByPlain : MethodName := ⟨RX3, "wordByPlain", "(I)I"⟩
abbrev cX3_kept : ByteArray := prog_11_method_70_code
def yX3_kept : MethodName := ⟨RX3, "kept", "()I"⟩
abbrev cX3_life : ByteArray := prog_11_method_71_code
def yX3_life : MethodName := ⟨RX3, "life", "(II)I"⟩
abbrev cX3_raises : ByteArray := prog_11_method_3_code
def yX3_raises : MethodName := ⟨RX3, "raises", "(I)I"⟩
abbrev cX3_inner : ByteArray := prog_11_method_72_code
def yX3_inner : MethodName := ⟨RX3, "inner", "(I)I"⟩
abbrev cX3_innerAnew : ByteArray := prog_11_method_73_code
def yX3_innerAnew : MethodName := ⟨RX3, "innerAnew", "(I)I"⟩
abbrev cX3_stateOf : ByteArray := prog_11_method_75_code
def yX3_stateOf : MethodName := ⟨RX3, "stateOf", "(I)C"⟩
abbrev cX3_noInner : ByteArray := prog_11_method_74_code
def yX3_noInner : MethodName := ⟨RX3, "noInner", "(I)Z"⟩
abbrev cX3_isReady : ByteArray := prog_11_method_76_code
def yX3_isReady : MethodName := ⟨RX3, "isReady", "(I)Z"⟩
abbrev cX3_free : ByteArray := prog_11_method_77_code
def yX3_free : MethodName := ⟨RX3, "free", "()I"⟩
abbrev cX3_freeAt : ByteArray := prog_11_method_78_code
def yX3_freeAt : MethodName := ⟨RX3, "freeAt", "(I)I"⟩
abbrev cX3_inBuffer : ByteArray := prog_11_method_79_code
def yX3_inBuffer : MethodName := ⟨RX3, "inBuffer", "()I"⟩
abbrev cX3_bufferAt : ByteArray := prog_11_method_80_code
def yX3_bufferAt : MethodName := ⟨RX3, "bufferAt", "(I)I"⟩
abbrev cX3_stageAt : ByteArray := prog_11_method_81_code
def yX3_stageAt : MethodName := ⟨RX3, "stageAt", "(I)C"⟩
abbrev cX3_inQueue : ByteArray := prog_11_method_82_code
def yX3_inQueue : MethodName := ⟨RX3, "inQueue", "()I"⟩
abbrev cX3_fetched : ByteArray := prog_11_method_83_code
def yX3_fetched : MethodName := ⟨RX3, "fetched", "()I"⟩
abbrev cX3_fetching : ByteArray := prog_11_method_84_code
def yX3_fetching : MethodName := ⟨RX3, "fetching", "()I"⟩
abbrev cX3_returns : ByteArray := prog_11_method_85_code
def yX3_returns : MethodName := ⟨RX3, "returns", "()I"⟩
abbrev cX3_returnAt : ByteArray := prog_11_method_86_code
def yX3_returnAt : MethodName := ⟨RX3, "returnAt", "(I)I"⟩
abbrev cX3_counter : ByteArray := prog_11_method_87_code
def yX3_counter : MethodName := ⟨RX3, "counter", "(I)I"⟩
abbrev cX3_isMarked : ByteArray := prog_11_method_88_code
def yX3_isMarked : MethodName := ⟨RX3, "isMarked", "(I)Z"⟩
abbrev cX3_lineAt : ByteArray := prog_11_method_89_code
def yX3_lineAt : MethodName := ⟨RX3, "lineAt", "(I)I"⟩
abbrev cX3_asked : ByteArray := prog_11_method_90_code
def yX3_asked : MethodName := ⟨RX3, "asked", "()I"⟩
abbrev cX3_lost : ByteArray := prog_11_method_91_code
def yX3_lost : MethodName := ⟨RX3, "lost", "(C)I"⟩
abbrev cX3_wrong : ByteArray := prog_11_method_92_code
def yX3_wrong : MethodName := ⟨RX3, "wrong", "()I"⟩
abbrev cX3_early : ByteArray := prog_11_method_93_code
def yX3_early : MethodName := ⟨RX3, "early", "()I"⟩
abbrev cX3_thrownAway : ByteArray := prog_11_method_94_code
def yX3_thrownAway : MethodName := ⟨RX3, "thrownAway", "()I"⟩
abbrev cX3_taken : ByteArray := prog_11_method_95_code
def yX3_taken : MethodName := ⟨RX3, "taken", "()I"⟩
abbrev cX3_hits : ByteArray := prog_11_method_96_code
def yX3_hits : MethodName := ⟨RX3, "hits", "()J"⟩
abbrev cX3_share : ByteArray := prog_11_method_97_code
def yX3_share : MethodName := ⟨RX3, "share", "()F"⟩
abbrev cX3_isSame : ByteArray := prog_11_method_98_code
def yX3_isSame : MethodName := ⟨RX3, "isSame", "()Z"⟩
abbrev cX3_isWhole : ByteArray := prog_11_method_99_code
def yX3_isWhole : MethodName := ⟨RX3, "isWhole", "()Z"⟩
def RX4 : String := "Reorderium$Instruction"
def TX4 : u_T := fun k => match k with
  | 0 => ("Reorderium$Instruction", "code", "I", true)
  | 1 => ("Reorderium$Instruction", "d", "I", true)
  | 2 => ("Reorderium$Instruction", "a", "I", true)
  | 3 => ("Reorderium$Instruction", "b", "I", true)
  | _ => ("Reorderium$Instruction", "n", "I", true)
def tyX4 : Nat → FieldType := fun k => match k with
  | 0 => .int
  | 1 => .int
  | 2 => .int
  | 3 => .int
  | _ => .int
abbrev wsX40 : List Cond := u_ws RX4 TX4 5
theorem nmX4 : ∀ a, a < 5 → ∀ b, b < 5 → a ≠ b → (TX4 a).2.1 ≠ (TX4 b).2.1 := by decide +kernel
theorem tyX4_ok : ∀ k, k < 5 → parseFieldDescriptor (TX4 k).2.2.1 = some (tyX4 k) := by decide +kernel
abbrev cX4_traps : ByteArray := prog_7_method_12_code
def yX4_traps : MethodName := ⟨RX4, "traps", "(I)Z"⟩
abbrev cX4_isForMemory : ByteArray := prog_7_method_4_code
def yX4_isForMemory : MethodName := ⟨RX4, "isForMemory", "()Z"⟩
abbrev cX4_isStore : ByteArray := prog_7_method_3_code
def yX4_isStore : MethodName := ⟨RX4, "isStore", "()Z"⟩
abbrev cX4_isIndirect : ByteArray := prog_7_method_6_code
def yX4_isIndirect : MethodName := ⟨RX4, "isIndirect", "()Z"⟩
abbrev cX4_stored : ByteArray := prog_7_method_15_code
def yX4_stored : MethodName := ⟨RX4, "stored", "(II)I"⟩
abbrev cX4_hasResult : ByteArray := prog_7_method_2_code
def yX4_hasResult : MethodName := ⟨RX4, "hasResult", "()Z"⟩
abbrev cX4_reckon : ByteArray := prog_7_method_13_code
def yX4_reckon : MethodName := ⟨RX4, "reckon", "(II)I"⟩
abbrev cX4_isCondition : ByteArray := prog_7_method_5_code
def yX4_isCondition : MethodName := ⟨RX4, "isCondition", "()Z"⟩
abbrev cX4_isFulfilled : ByteArray := prog_7_method_14_code
def yX4_isFulfilled : MethodName := ⟨RX4, "isFulfilled", "(II)Z"⟩
abbrev cX4_init : ByteArray := prog_7_method_1_code
def yX4_init : MethodName := ⟨RX4, "<init>", "(IIIII)V"⟩
abbrev cX4_needsA : ByteArray := prog_7_method_10_code
def yX4_needsA : MethodName := ⟨RX4, "needsA", "()Z"⟩
abbrev cX4_isForQueue : ByteArray := prog_7_method_8_code
def yX4_isForQueue : MethodName := ⟨RX4, "isForQueue", "()Z"⟩
abbrev cX4_needsBToBegin : ByteArray := prog_7_method_11_code
def yX4_needsBToBegin : MethodName := ⟨RX4, "needsBToBegin", "()Z"⟩
abbrev cX4_standsAlone : ByteArray := prog_7_method_9_code
def yX4_standsAlone : MethodName := ⟨RX4, "standsAlone", "()Z"⟩
def RX5 : String := "Reorderium$End"
def TX5 : u_T := fun k => match k with
  | 0 => ("Reorderium$End", "kind", "I", true)
  | 1 => ("Reorderium$End", "place", "I", true)
  | 2 => ("Reorderium$End", "cycle", "I", true)
  | _ => ("Reorderium$End", "flight", "LReorderium$Flight;", true)
def tyX5 : Nat → FieldType := fun k => match k with
  | 0 => .int
  | 1 => .int
  | 2 => .int
  | _ => .object "Reorderium$Flight"
abbrev wsX50 : List Cond := u_ws RX5 TX5 4
theorem nmX5 : ∀ a, a < 4 → ∀ b, b < 4 → a ≠ b → (TX5 a).2.1 ≠ (TX5 b).2.1 := by decide +kernel
theorem tyX5_ok : ∀ k, k < 4 → parseFieldDescriptor (TX5 k).2.2.1 = some (tyX5 k) := by decide +kernel
abbrev cX5_init : ByteArray := prog_4_method_1_code
def yX5_init : MethodName := ⟨RX5, "<init>", "(IIILReorderium$Flight;)V"⟩
def RX6 : String := "Reorderium$Units"
def TX6 : u_T := fun k => match k with
  | 0 => ("Reorderium$Units", "plain", "I", false)
  | 1 => ("Reorderium$Units", "multiplier", "I", false)
  | 2 => ("Reorderium$Units", "divider", "I", false)
  | _ => ("Reorderium$Units", "memory", "I", false)
def tyX6 : Nat → FieldType := fun k => match k with
  | 0 => .int
  | 1 => .int
  | 2 => .int
  | _ => .int
abbrev wsX60 : List Cond := u_ws RX6 TX6 4
theorem nmX6 : ∀ a, a < 4 → ∀ b, b < 4 → a ≠ b → (TX6 a).2.1 ≠ (TX6 b).2.1 := by decide +kernel
theorem tyX6_ok : ∀ k, k < 4 → parseFieldDescriptor (TX6 k).2.2.1 = some (tyX6 k) := by decide +kernel
abbrev cX6_init : ByteArray := prog_9_method_1_code
def yX6_init : MethodName := ⟨RX6, "<init>", "(Z)V"⟩
abbrev cX6_has : ByteArray := prog_9_method_2_code
def yX6_has : MethodName := ⟨RX6, "has", "(I)Z"⟩
abbrev cX6_leftFor : ByteArray := prog_9_method_3_code
def yX6_leftFor : MethodName := ⟨RX6, "leftFor", "(I)I"⟩
abbrev cX6_use : ByteArray := prog_9_method_4_code
def yX6_use : MethodName := ⟨RX6, "use", "(I)V"⟩
def RX7 : String := "Reorderium$Asked"
def TX7 : u_T := fun k => match k with
  | 0 => ("Reorderium$Asked", "line", "I", true)
  | _ => ("Reorderium$Asked", "comesIn", "I", true)
def tyX7 : Nat → FieldType := fun k => match k with
  | 0 => .int
  | _ => .int
abbrev wsX70 : List Cond := u_ws RX7 TX7 2
theorem nmX7 : ∀ a, a < 2 → ∀ b, b < 2 → a ≠ b → (TX7 a).2.1 ≠ (TX7 b).2.1 := by decide +kernel
theorem tyX7_ok : ∀ k, k < 2 → parseFieldDescriptor (TX7 k).2.2.1 = some (tyX7 k) := by decide +kernel
abbrev cX7_init : ByteArray := prog_3_method_1_code
def yX7_init : MethodName := ⟨RX7, "<init>", "(II)V"⟩
def RX8 : String := "Reorderium$Flight"
def TX8 : u_T := fun k => match k with
  | 0 => ("Reorderium$Flight", "instruction", "LReorderium$Instruction;", true)
  | 1 => ("Reorderium$Flight", "place", "I", true)
  | 2 => ("Reorderium$Flight", "fetchedIn", "I", true)
  | 3 => ("Reorderium$Flight", "age", "J", true)
  | 4 => ("Reorderium$Flight", "returnsBefore", "[I", true)
  | 5 => ("Reorderium$Flight", "returnsThen", "[I", false)
  | 6 => ("Reorderium$Flight", "guess", "I", false)
  | 7 => ("Reorderium$Flight", "renamedIn", "I", false)
  | 8 => ("Reorderium$Flight", "begunIn", "I", false)
  | 9 => ("Reorderium$Flight", "endedIn", "I", false)
  | 10 => ("Reorderium$Flight", "innerA", "I", false)
  | 11 => ("Reorderium$Flight", "innerB", "I", false)
  | 12 => ("Reorderium$Flight", "innerD", "I", false)
  | 13 => ("Reorderium$Flight", "innerBefore", "I", false)
  | 14 => ("Reorderium$Flight", "stage", "C", false)
  | 15 => ("Reorderium$Flight", "endsIn", "I", false)
  | 16 => ("Reorderium$Flight", "trap", "I", false)
  | 17 => ("Reorderium$Flight", "address", "I", false)
  | 18 => ("Reorderium$Flight", "value", "I", false)
  | 19 => ("Reorderium$Flight", "next", "I", false)
  | 20 => ("Reorderium$Flight", "line", "I", false)
  | 21 => ("Reorderium$Flight", "source", "LReorderium$Flight;", false)
  | _ => ("Reorderium$Flight", "isThrown", "Z", false)
def tyX8 : Nat → FieldType := fun k => match k with
  | 0 => .object "Reorderium$Instruction"
  | 1 => .int
  | 2 => .int
  | 3 => .long
  | 4 => .array .int
  | 5 => .array .int
  | 6 => .int
  | 7 => .int
  | 8 => .int
  | 9 => .int
  | 10 => .int
  | 11 => .int
  | 12 => .int
  | 13 => .int
  | 14 => .char
  | 15 => .int
  | 16 => .int
  | 17 => .int
  | 18 => .int
  | 19 => .int
  | 20 => .int
  | 21 => .object "Reorderium$Flight"
  | _ => .boolean
abbrev wsX80 : List Cond := u_ws RX8 TX8 23
set_option maxRecDepth 100000 in
theorem nmX8 : ∀ a, a < 23 → ∀ b, b < 23 → a ≠ b → (TX8 a).2.1 ≠ (TX8 b).2.1 := by decide +kernel
set_option maxRecDepth 100000 in
theorem tyX8_ok : ∀ k, k < 23 → parseFieldDescriptor (TX8 k).2.2.1 = some (tyX8 k) := by decide +kernel
abbrev cX8_end : ByteArray := prog_5_method_7_code
def yX8_end : MethodName := ⟨RX8, "end", "(I)V"⟩
abbrev cX8_age : ByteArray := prog_5_method_2_code
def yX8_age : MethodName := ⟨RX8, "age", "()J"⟩
abbrev cX8_hasBegunLoadOf : ByteArray := prog_5_method_8_code
def yX8_hasBegunLoadOf : MethodName := ⟨RX8, "hasBegunLoadOf", "(I)Z"⟩
abbrev cX8_isOver : ByteArray := prog_5_method_3_code
def yX8_isOver : MethodName := ⟨RX8, "isOver", "()Z"⟩
abbrev cX8_isEndedStore : ByteArray := prog_5_method_4_code
def yX8_isEndedStore : MethodName := ⟨RX8, "isEndedStore", "()Z"⟩
abbrev cX8_begin : ByteArray := prog_5_method_5_code
def yX8_begin : MethodName := ⟨RX8, "begin", "(II)V"⟩
abbrev cX8_waitFor : ByteArray := prog_5_method_6_code
def yX8_waitFor : MethodName := ⟨RX8, "waitFor", "(II)V"⟩
abbrev cX8_init : ByteArray := prog_5_method_1_code
def yX8_init : MethodName := ⟨RX8, "<init>", "(LReorderium$Instruction;IIJ[I)V"⟩
def RX9 : String := "Reorderium$Plain"
def TX9 : u_T := fun k => match k with
  | 0 => ("Reorderium$Plain", "program", "Ljava/util/List;", true)
  | 1 => ("Reorderium$Plain", "registers", "[I", true)
  | 2 => ("Reorderium$Plain", "words", "[I", true)
  | 3 => ("Reorderium$Plain", "handling", "LReorderium$Handling;", true)
  | 4 => ("Reorderium$Plain", "place", "I", false)
  | _ => ("Reorderium$Plain", "hasStopped", "Z", false)
def tyX9 : Nat → FieldType := fun k => match k with
  | 0 => .object "java/util/List"
  | 1 => .array .int
  | 2 => .array .int
  | 3 => .object "Reorderium$Handling"
  | 4 => .int
  | _ => .boolean
abbrev wsX90 : List Cond := u_ws RX9 TX9 6
theorem nmX9 : ∀ a, a < 6 → ∀ b, b < 6 → a ≠ b → (TX9 a).2.1 ≠ (TX9 b).2.1 := by decide +kernel
theorem tyX9_ok : ∀ k, k < 6 → parseFieldDescriptor (TX9 k).2.2.1 = some (tyX9 k) := by decide +kernel
abbrev cX9_init : ByteArray := prog_8_method_1_code
def yX9_init : MethodName := ⟨RX9, "<init>", "(Ljava/util/List;[I[ILReorderium$Handling;)V"⟩
abbrev cX9_interrupt : ByteArray := prog_8_method_2_code
def yX9_interrupt : MethodName := ⟨RX9, "interrupt", "()I"⟩
abbrev cX9_step : ByteArray := prog_8_method_4_code
def yX9_step : MethodName := ⟨RX9, "step", "()I"⟩
abbrev cX9_trapOf : ByteArray := prog_8_method_5_code
def yX9_trapOf : MethodName := ⟨RX9, "trapOf", "(LReorderium$Instruction;)I"⟩
abbrev cX9_trap : ByteArray := prog_8_method_3_code
def yX9_trap : MethodName := ⟨RX9, "trap", "()V"⟩
abbrev cX9_doneBy : ByteArray := prog_8_method_6_code
def yX9_doneBy : MethodName := ⟨RX9, "doneBy", "(LReorderium$Instruction;)I"⟩
def RX10 : String := "Reorderium$Aged"
abbrev cX10_isOlderThan : ByteArray := prog_2_method_2_code
def yX10_isOlderThan : MethodName := ⟨RX10, "isOlderThan", "(LReorderium$Aged;)Z"⟩
def RJ0 : String := "java/util/AbstractCollection"
abbrev cJ0_init : ByteArray := prog_38_method_1_code
def yJ0_init : MethodName := ⟨RJ0, "<init>", "()V"⟩
abbrev cJ0_isEmpty : ByteArray := prog_38_method_4_code
def yJ0_isEmpty : MethodName := ⟨RJ0, "isEmpty", "()Z"⟩
def RJ1 : String := "java/util/AbstractList"
abbrev cJ1_init : ByteArray := prog_39_method_1_code
def yJ1_init : MethodName := ⟨RJ1, "<init>", "()V"⟩
abbrev cJ1_listIterator : ByteArray := prog_39_method_12_code
def yJ1_listIterator : MethodName := ⟨RJ1, "listIterator", "()Ljava/util/ListIterator;"⟩
def RJ2 : String := "java/util/ArrayList"
def TJ2 : u_T := fun k => match k with
  | 0 => ("java/util/AbstractList", "modCount", "I", false)
  | 1 => ("java/util/ArrayList", "elementData", "[Ljava/lang/Object;", false)
  | _ => ("java/util/ArrayList", "size", "I", false)
def tyJ2 : Nat → FieldType := fun k => match k with
  | 0 => .int
  | 1 => .array (.object "java/lang/Object")
  | _ => .int
abbrev wsJ20 : List Cond := u_ws RJ2 TJ2 3
theorem nmJ2 : ∀ a, a < 3 → ∀ b, b < 3 → a ≠ b → (TJ2 a).2.1 ≠ (TJ2 b).2.1 := by decide +kernel
theorem tyJ2_ok : ∀ k, k < 3 → parseFieldDescriptor (TJ2 k).2.2.1 = some (tyJ2 k) := by decide +kernel
abbrev cJ2_init : ByteArray := prog_45_method_2_code
def yJ2_init : MethodName := ⟨RJ2, "<init>", "()V"⟩
abbrev cJ2_size : ByteArray := prog_45_method_8_code
def yJ2_size : MethodName := ⟨RJ2, "size", "()I"⟩
abbrev cJ2_iterator : ByteArray := prog_45_method_55_code
def yJ2_iterator : MethodName := ⟨RJ2, "iterator", "()Ljava/util/Iterator;"⟩
abbrev cJ2_listIterator : ByteArray := prog_45_method_53_code
def yJ2_listIterator : MethodName := ⟨RJ2, "listIterator", "(I)Ljava/util/ListIterator;"⟩
abbrev cJ2_rangeCheckForAdd : ByteArray := prog_45_method_45_code
def yJ2_rangeCheckForAdd : MethodName := ⟨RJ2, "rangeCheckForAdd", "(I)V"⟩
abbrev cJ2_outOfBoundsMsg : ByteArray := prog_45_method_46_code
def yJ2_outOfBoundsMsg : MethodName := ⟨RJ2, "outOfBoundsMsg", "(I)Ljava/lang/String;"⟩
abbrev cJ2_get : ByteArray := prog_45_method_20_code
def yJ2_get : MethodName := ⟨RJ2, "get", "(I)Ljava/lang/Object;"⟩
abbrev cJ2_elementData : ByteArray := prog_45_method_18_code
def yJ2_elementData : MethodName := ⟨RJ2, "elementData", "(I)Ljava/lang/Object;"⟩
abbrev cJ2_add : ByteArray := prog_45_method_25_code
def yJ2_add : MethodName := ⟨RJ2, "add", "(Ljava/lang/Object;)Z"⟩
abbrev cJ2_add_2 : ByteArray := prog_45_method_24_code
def yJ2_add_2 : MethodName := ⟨RJ2, "add", "(Ljava/lang/Object;[Ljava/lang/Object;I)V"⟩
abbrev cJ2_grow : ByteArray := prog_45_method_7_code
def yJ2_grow : MethodName := ⟨RJ2, "grow", "()[Ljava/lang/Object;"⟩
abbrev cJ2_grow_2 : ByteArray := prog_45_method_6_code
def yJ2_grow_2 : MethodName := ⟨RJ2, "grow", "(I)[Ljava/lang/Object;"⟩
abbrev cJ2_remove : ByteArray := prog_45_method_29_code
def yJ2_remove : MethodName := ⟨RJ2, "remove", "(I)Ljava/lang/Object;"⟩
abbrev cJ2_fastRemove : ByteArray := prog_45_method_39_code
def yJ2_fastRemove : MethodName := ⟨RJ2, "fastRemove", "([Ljava/lang/Object;I)V"⟩
def RJ3 : String := "java/util/BitSet"
def TJ3 : u_T := fun k => match k with
  | 0 => ("java/util/BitSet", "words", "[J", false)
  | 1 => ("java/util/BitSet", "wordsInUse", "I", false)
  | _ => ("java/util/BitSet", "sizeIsSticky", "Z", false)
def tyJ3 : Nat → FieldType := fun k => match k with
  | 0 => .array .long
  | 1 => .int
  | _ => .boolean
abbrev wsJ30 : List Cond := u_ws RJ3 TJ3 3
theorem nmJ3 : ∀ a, a < 3 → ∀ b, b < 3 → a ≠ b → (TJ3 a).2.1 ≠ (TJ3 b).2.1 := by decide +kernel
theorem tyJ3_ok : ∀ k, k < 3 → parseFieldDescriptor (TJ3 k).2.2.1 = some (tyJ3 k) := by decide +kernel
abbrev cJ3_init : ByteArray := prog_49_method_4_code
def yJ3_init : MethodName := ⟨RJ3, "<init>", "()V"⟩
abbrev cJ3_initWords : ByteArray := prog_49_method_6_code
def yJ3_initWords : MethodName := ⟨RJ3, "initWords", "(I)V"⟩
abbrev cJ3_wordIndex : ByteArray := prog_49_method_1_code
def yJ3_wordIndex : MethodName := ⟨RJ3, "wordIndex", "(I)I"⟩
abbrev cJ3_set : ByteArray := prog_49_method_19_code
def yJ3_set : MethodName := ⟨RJ3, "set", "(I)V"⟩
abbrev cJ3_expandTo : ByteArray := prog_49_method_15_code
def yJ3_expandTo : MethodName := ⟨RJ3, "expandTo", "(I)V"⟩
abbrev cJ3_ensureCapacity : ByteArray := prog_49_method_14_code
def yJ3_ensureCapacity : MethodName := ⟨RJ3, "ensureCapacity", "(I)V"⟩
abbrev cJ3_checkInvariants : ByteArray := prog_49_method_2_code
def yJ3_checkInvariants : MethodName := ⟨RJ3, "checkInvariants", "()V"⟩
abbrev cJ3_get : ByteArray := prog_49_method_26_code
def yJ3_get : MethodName := ⟨RJ3, "get", "(I)Z"⟩
abbrev cJ3_clear : ByteArray := prog_49_method_23_code
def yJ3_clear : MethodName := ⟨RJ3, "clear", "(I)V"⟩
abbrev cJ3_recalculateWordsInUse : ByteArray := prog_49_method_3_code
def yJ3_recalculateWordsInUse : MethodName := ⟨RJ3, "recalculateWordsInUse", "()V"⟩
def RJ4 : String := "java/util/ArrayDeque"
def TJ4 : u_T := fun k => match k with
  | 0 => ("java/util/ArrayDeque", "elements", "[Ljava/lang/Object;", false)
  | 1 => ("java/util/ArrayDeque", "head", "I", false)
  | _ => ("java/util/ArrayDeque", "tail", "I", false)
def tyJ4 : Nat → FieldType := fun k => match k with
  | 0 => .array (.object "java/lang/Object")
  | 1 => .int
  | _ => .int
abbrev wsJ40 : List Cond := u_ws RJ4 TJ4 3
theorem nmJ4 : ∀ a, a < 3 → ∀ b, b < 3 → a ≠ b → (TJ4 a).2.1 ≠ (TJ4 b).2.1 := by decide +kernel
theorem tyJ4_ok : ∀ k, k < 3 → parseFieldDescriptor (TJ4 k).2.2.1 = some (tyJ4 k) := by decide +kernel
abbrev cJ4_init : ByteArray := prog_43_method_3_code
def yJ4_init : MethodName := ⟨RJ4, "<init>", "()V"⟩
abbrev cJ4_clear : ByteArray := prog_43_method_53_code
def yJ4_clear : MethodName := ⟨RJ4, "clear", "()V"⟩
abbrev cJ4_circularClear : ByteArray := prog_43_method_54_code
def yJ4_circularClear : MethodName := ⟨RJ4, "circularClear", "([Ljava/lang/Object;II)V"⟩
abbrev cJ4_addLast : ByteArray := prog_43_method_13_code
def yJ4_addLast : MethodName := ⟨RJ4, "addLast", "(Ljava/lang/Object;)V"⟩
abbrev cJ4_inc : ByteArray := prog_43_method_6_code
def yJ4_inc : MethodName := ⟨RJ4, "inc", "(II)I"⟩
abbrev cJ4_grow : ByteArray := prog_43_method_1_code
def yJ4_grow : MethodName := ⟨RJ4, "grow", "(I)V"⟩
abbrev cJ4_newCapacity : ByteArray := prog_43_method_2_code
def yJ4_newCapacity : MethodName := ⟨RJ4, "newCapacity", "(II)I"⟩
abbrev cJ4_size : ByteArray := prog_43_method_37_code
def yJ4_size : MethodName := ⟨RJ4, "size", "()I"⟩
abbrev cJ4_sub : ByteArray := prog_43_method_9_code
def yJ4_sub : MethodName := ⟨RJ4, "sub", "(III)I"⟩
abbrev cJ4_nonNullElementAt : ByteArray := prog_43_method_11_code
def yJ4_nonNullElementAt : MethodName := ⟨RJ4, "nonNullElementAt", "([Ljava/lang/Object;I)Ljava/lang/Object;"⟩
abbrev cJ4_iterator : ByteArray := prog_43_method_39_code
def yJ4_iterator : MethodName := ⟨RJ4, "iterator", "()Ljava/util/Iterator;"⟩
abbrev cJ4_delete : ByteArray := prog_43_method_36_code
def yJ4_delete : MethodName := ⟨RJ4, "delete", "(I)Z"⟩
abbrev cJ4_dec : ByteArray := prog_43_method_7_code
def yJ4_dec : MethodName := ⟨RJ4, "dec", "(II)I"⟩
abbrev cJ4_isEmpty : ByteArray := prog_43_method_38_code
def yJ4_isEmpty : MethodName := ⟨RJ4, "isEmpty", "()Z"⟩
abbrev cJ4_getFirst : ByteArray := prog_43_method_22_code
def yJ4_getFirst : MethodName := ⟨RJ4, "getFirst", "()Ljava/lang/Object;"⟩
abbrev cJ4_elementAt : ByteArray := prog_43_method_10_code
def yJ4_elementAt : MethodName := ⟨RJ4, "elementAt", "([Ljava/lang/Object;I)Ljava/lang/Object;"⟩
abbrev cJ4_removeFirst : ByteArray := prog_43_method_18_code
def yJ4_removeFirst : MethodName := ⟨RJ4, "removeFirst", "()Ljava/lang/Object;"⟩
abbrev cJ4_pollFirst : ByteArray := prog_43_method_20_code
def yJ4_pollFirst : MethodName := ⟨RJ4, "pollFirst", "()Ljava/lang/Object;"⟩
abbrev cJ4_contains : ByteArray := prog_43_method_51_code
def yJ4_contains : MethodName := ⟨RJ4, "contains", "(Ljava/lang/Object;)Z"⟩
def RJ5 : String := "java/util/AbstractSequentialList"
abbrev cJ5_init : ByteArray := prog_42_method_1_code
def yJ5_init : MethodName := ⟨RJ5, "<init>", "()V"⟩
abbrev cJ5_iterator : ByteArray := prog_42_method_7_code
def yJ5_iterator : MethodName := ⟨RJ5, "iterator", "()Ljava/util/Iterator;"⟩
def RJ6 : String := "java/util/LinkedList"
def TJ6 : u_T := fun k => match k with
  | 0 => ("java/util/AbstractList", "modCount", "I", false)
  | 1 => ("java/util/LinkedList", "size", "I", false)
  | 2 => ("java/util/LinkedList", "first", "Ljava/util/LinkedList$Node;", false)
  | _ => ("java/util/LinkedList", "last", "Ljava/util/LinkedList$Node;", false)
def tyJ6 : Nat → FieldType := fun k => match k with
  | 0 => .int
  | 1 => .int
  | 2 => .object "java/util/LinkedList$Node"
  | _ => .object "java/util/LinkedList$Node"
abbrev wsJ60 : List Cond := u_ws RJ6 TJ6 4
theorem nmJ6 : ∀ a, a < 4 → ∀ b, b < 4 → a ≠ b → (TJ6 a).2.1 ≠ (TJ6 b).2.1 := by decide +kernel
theorem tyJ6_ok : ∀ k, k < 4 → parseFieldDescriptor (TJ6 k).2.2.1 = some (tyJ6 k) := by decide +kernel
abbrev cJ6_init : ByteArray := prog_54_method_1_code
def yJ6_init : MethodName := ⟨RJ6, "<init>", "()V"⟩
abbrev cJ6_size : ByteArray := prog_54_method_16_code
def yJ6_size : MethodName := ⟨RJ6, "size", "()I"⟩
abbrev cJ6_listIterator : ByteArray := prog_54_method_49_code
def yJ6_listIterator : MethodName := ⟨RJ6, "listIterator", "(I)Ljava/util/ListIterator;"⟩
abbrev cJ6_checkPositionIndex : ByteArray := prog_54_method_30_code
def yJ6_checkPositionIndex : MethodName := ⟨RJ6, "checkPositionIndex", "(I)V"⟩
abbrev cJ6_isPositionIndex : ByteArray := prog_54_method_27_code
def yJ6_isPositionIndex : MethodName := ⟨RJ6, "isPositionIndex", "(I)Z"⟩
abbrev cJ6_outOfBoundsMsg : ByteArray := prog_54_method_28_code
def yJ6_outOfBoundsMsg : MethodName := ⟨RJ6, "outOfBoundsMsg", "(I)Ljava/lang/String;"⟩
abbrev cJ6_node : ByteArray := prog_54_method_31_code
def yJ6_node : MethodName := ⟨RJ6, "node", "(I)Ljava/util/LinkedList$Node;"⟩
abbrev cJ6_get : ByteArray := prog_54_method_22_code
def yJ6_get : MethodName := ⟨RJ6, "get", "(I)Ljava/lang/Object;"⟩
abbrev cJ6_checkElementIndex : ByteArray := prog_54_method_29_code
def yJ6_checkElementIndex : MethodName := ⟨RJ6, "checkElementIndex", "(I)V"⟩
abbrev cJ6_isElementIndex : ByteArray := prog_54_method_26_code
def yJ6_isElementIndex : MethodName := ⟨RJ6, "isElementIndex", "(I)Z"⟩
abbrev cJ6_add : ByteArray := prog_54_method_17_code
def yJ6_add : MethodName := ⟨RJ6, "add", "(Ljava/lang/Object;)Z"⟩
abbrev cJ6_linkLast : ByteArray := prog_54_method_4_code
def yJ6_linkLast : MethodName := ⟨RJ6, "linkLast", "(Ljava/lang/Object;)V"⟩
abbrev cJ6_remove : ByteArray := prog_54_method_25_code
def yJ6_remove : MethodName := ⟨RJ6, "remove", "(I)Ljava/lang/Object;"⟩
abbrev cJ6_unlink : ByteArray := prog_54_method_8_code
def yJ6_unlink : MethodName := ⟨RJ6, "unlink", "(Ljava/util/LinkedList$Node;)Ljava/lang/Object;"⟩
abbrev cJ6_descendingIterator : ByteArray := prog_54_method_50_code
def yJ6_descendingIterator : MethodName := ⟨RJ6, "descendingIterator", "()Ljava/util/Iterator;"⟩
abbrev cJ6_getFirst : ByteArray := prog_54_method_9_code
def yJ6_getFirst : MethodName := ⟨RJ6, "getFirst", "()Ljava/lang/Object;"⟩
abbrev cJ6_removeFirst : ByteArray := prog_54_method_11_code
def yJ6_removeFirst : MethodName := ⟨RJ6, "removeFirst", "()Ljava/lang/Object;"⟩
abbrev cJ6_unlinkFirst : ByteArray := prog_54_method_6_code
def yJ6_unlinkFirst : MethodName := ⟨RJ6, "unlinkFirst", "(Ljava/util/LinkedList$Node;)Ljava/lang/Object;"⟩
abbrev cJ6_addLast : ByteArray := prog_54_method_14_code
def yJ6_addLast : MethodName := ⟨RJ6, "addLast", "(Ljava/lang/Object;)V"⟩
def RJ7 : String := "java/lang/String"
def TJ7 : u_T := fun k => match k with
  | 0 => ("java/lang/String", "value", "[B", true)
  | 1 => ("java/lang/String", "coder", "B", true)
  | 2 => ("java/lang/String", "hash", "I", false)
  | _ => ("java/lang/String", "hashIsZero", "Z", false)
def tyJ7 : Nat → FieldType := fun k => match k with
  | 0 => .array .byte
  | 1 => .byte
  | 2 => .int
  | _ => .boolean
abbrev wsJ70 : List Cond := u_ws RJ7 TJ7 4
theorem nmJ7 : ∀ a, a < 4 → ∀ b, b < 4 → a ≠ b → (TJ7 a).2.1 ≠ (TJ7 b).2.1 := by decide +kernel
theorem tyJ7_ok : ∀ k, k < 4 → parseFieldDescriptor (TJ7 k).2.2.1 = some (tyJ7 k) := by decide +kernel
abbrev cJ7_length : ByteArray := prog_30_method_54_code
def yJ7_length : MethodName := ⟨RJ7, "length", "()I"⟩
abbrev cJ7_coder : ByteArray := prog_30_method_152_code
def yJ7_coder : MethodName := ⟨RJ7, "coder", "()B"⟩
abbrev cJ7_checkBoundsBeginEnd : ByteArray := prog_30_method_158_code
def yJ7_checkBoundsBeginEnd : MethodName := ⟨RJ7, "checkBoundsBeginEnd", "(III)V"⟩
abbrev cJ7_checkBoundsOffCount : ByteArray := prog_30_method_157_code
def yJ7_checkBoundsOffCount : MethodName := ⟨RJ7, "checkBoundsOffCount", "(III)I"⟩
abbrev cJ7_getBytes : ByteArray := prog_30_method_147_code
def yJ7_getBytes : MethodName := ⟨RJ7, "getBytes", "([BIB)V"⟩
abbrev cJ7_init : ByteArray := prog_30_method_53_code
def yJ7_init : MethodName := ⟨RJ7, "<init>", "(Ljava/lang/StringBuilder;)V"⟩
abbrev cJ7_init_2 : ByteArray := prog_30_method_150_code
def yJ7_init_2 : MethodName := ⟨RJ7, "<init>", "(Ljava/lang/AbstractStringBuilder;Ljava/lang/Void;)V"⟩
abbrev cJ7_indexOf : ByteArray := prog_30_method_79_code
def yJ7_indexOf : MethodName := ⟨RJ7, "indexOf", "(I)I"⟩
abbrev cJ7_indexOf_2 : ByteArray := prog_30_method_80_code
def yJ7_indexOf_2 : MethodName := ⟨RJ7, "indexOf", "(II)I"⟩
abbrev cJ7_isLatin1 : ByteArray := prog_30_method_154_code
def yJ7_isLatin1 : MethodName := ⟨RJ7, "isLatin1", "()Z"⟩
abbrev cJ7_equals : ByteArray := prog_30_method_66_code
def yJ7_equals : MethodName := ⟨RJ7, "equals", "(Ljava/lang/Object;)Z"⟩
def RJ16 : String := "java/lang/Math"
abbrev cJ16_max : ByteArray := prog_27_method_65_code
def yJ16_max : MethodName := ⟨RJ16, "max", "(II)I"⟩
abbrev cJ16_min : ByteArray := prog_27_method_69_code
def yJ16_min : MethodName := ⟨RJ16, "min", "(II)I"⟩
def RJ17 : String := "java/util/Arrays"
abbrev cJ17_copyOf : ByteArray := prog_48_method_121_code
def yJ17_copyOf : MethodName := ⟨RJ17, "copyOf", "([BI)[B"⟩
abbrev cJ17_copyOfRange : ByteArray := prog_48_method_132_code
def yJ17_copyOfRange : MethodName := ⟨RJ17, "copyOfRange", "([BII)[B"⟩
abbrev cJ17_copyOfRangeByte : ByteArray := prog_48_method_133_code
def yJ17_copyOfRangeByte : MethodName := ⟨RJ17, "copyOfRangeByte", "([BII)[B"⟩
abbrev cJ17_checkLength : ByteArray := prog_48_method_131_code
def yJ17_checkLength : MethodName := ⟨RJ17, "checkLength", "(II)V"⟩
abbrev cJ17_copyOf_2 : ByteArray := prog_48_method_124_code
def yJ17_copyOf_2 : MethodName := ⟨RJ17, "copyOf", "([JI)[J"⟩
abbrev cJ17_copyOf_3 : ByteArray := prog_48_method_119_code
def yJ17_copyOf_3 : MethodName := ⟨RJ17, "copyOf", "([Ljava/lang/Object;I)[Ljava/lang/Object;"⟩
abbrev cJ17_copyOf_4 : ByteArray := prog_48_method_120_code
def yJ17_copyOf_4 : MethodName := ⟨RJ17, "copyOf", "([Ljava/lang/Object;ILjava/lang/Class;)[Ljava/lang/Object;"⟩
def RJ19 : String := "java/lang/StringLatin1"
abbrev cJ19_inflate : ByteArray := prog_32_method_50_code
def yJ19_inflate : MethodName := ⟨RJ19, "inflate", "([BI[BII)V"⟩
abbrev cJ19_indexOf : ByteArray := prog_32_method_22_code
def yJ19_indexOf : MethodName := ⟨RJ19, "indexOf", "([BIII)I"⟩
abbrev cJ19_canEncode : ByteArray := prog_32_method_4_code
def yJ19_canEncode : MethodName := ⟨RJ19, "canEncode", "(I)Z"⟩
abbrev cJ19_indexOfChar : ByteArray := prog_32_method_23_code
def yJ19_indexOfChar : MethodName := ⟨RJ19, "indexOfChar", "([BIII)I"⟩
abbrev cJ19_equals : ByteArray := prog_32_method_13_code
def yJ19_equals : MethodName := ⟨RJ19, "equals", "([B[B)Z"⟩
def RJ21 : String := "java/lang/Integer"
def TJ21 : u_T := fun k => match k with
  | _ => ("java/lang/Integer", "value", "I", true)
def tyJ21 : Nat → FieldType := fun k => match k with
  | _ => .int
abbrev wsJ210 : List Cond := u_ws RJ21 TJ21 1
theorem nmJ21 : ∀ a, a < 1 → ∀ b, b < 1 → a ≠ b → (TJ21 a).2.1 ≠ (TJ21 b).2.1 := by decide +kernel
theorem tyJ21_ok : ∀ k, k < 1 → parseFieldDescriptor (TJ21 k).2.2.1 = some (tyJ21 k) := by decide +kernel
abbrev cJ21_stringSize : ByteArray := prog_24_method_13_code
def yJ21_stringSize : MethodName := ⟨RJ21, "stringSize", "(I)I"⟩
abbrev cJ21_getChars : ByteArray := prog_24_method_12_code
def yJ21_getChars : MethodName := ⟨RJ21, "getChars", "(II[B)I"⟩
abbrev cJ21_valueOf : ByteArray := prog_24_method_22_code
def yJ21_valueOf : MethodName := ⟨RJ21, "valueOf", "(I)Ljava/lang/Integer;"⟩
abbrev cJ21_init : ByteArray := prog_24_method_23_code
def yJ21_init : MethodName := ⟨RJ21, "<init>", "(I)V"⟩
abbrev cJ21_intValue : ByteArray := prog_24_method_27_code
def yJ21_intValue : MethodName := ⟨RJ21, "intValue", "()I"⟩
abbrev cJ21_equals : ByteArray := prog_24_method_34_code
def yJ21_equals : MethodName := ⟨RJ21, "equals", "(Ljava/lang/Object;)Z"⟩
def RJ24 : String := "java/util/LinkedList$Node"
def TJ24 : u_T := fun k => match k with
  | 0 => ("java/util/LinkedList$Node", "item", "Ljava/lang/Object;", false)
  | 1 => ("java/util/LinkedList$Node", "next", "Ljava/util/LinkedList$Node;", false)
  | _ => ("java/util/LinkedList$Node", "prev", "Ljava/util/LinkedList$Node;", false)
def tyJ24 : Nat → FieldType := fun k => match k with
  | 0 => .object "java/lang/Object"
  | 1 => .object "java/util/LinkedList$Node"
  | _ => .object "java/util/LinkedList$Node"
abbrev wsJ240 : List Cond := u_ws RJ24 TJ24 3
theorem nmJ24 : ∀ a, a < 3 → ∀ b, b < 3 → a ≠ b → (TJ24 a).2.1 ≠ (TJ24 b).2.1 := by decide +kernel
theorem tyJ24_ok : ∀ k, k < 3 → parseFieldDescriptor (TJ24 k).2.2.1 = some (tyJ24 k) := by decide +kernel
abbrev cJ24_init : ByteArray := prog_57_method_1_code
def yJ24_init : MethodName := ⟨RJ24, "<init>", "(Ljava/util/LinkedList$Node;Ljava/lang/Object;Ljava/util/LinkedList$Node;)V"⟩
def RJ26 : String := "java/util/ArrayList$Itr"
def TJ26 : u_T := fun k => match k with
  | 0 => ("java/util/ArrayList$Itr", "cursor", "I", false)
  | 1 => ("java/util/ArrayList$Itr", "lastRet", "I", false)
  | 2 => ("java/util/ArrayList$Itr", "expectedModCount", "I", false)
  | _ => ("java/util/ArrayList$Itr", "this$0", "Ljava/util/ArrayList;", true)
def tyJ26 : Nat → FieldType := fun k => match k with
  | 0 => .int
  | 1 => .int
  | 2 => .int
  | _ => .object "java/util/ArrayList"
abbrev wsJ260 : List Cond := u_ws RJ26 TJ26 4
theorem nmJ26 : ∀ a, a < 4 → ∀ b, b < 4 → a ≠ b → (TJ26 a).2.1 ≠ (TJ26 b).2.1 := by decide +kernel
theorem tyJ26_ok : ∀ k, k < 4 → parseFieldDescriptor (TJ26 k).2.2.1 = some (tyJ26 k) := by decide +kernel
abbrev cJ26_init : ByteArray := prog_46_method_1_code
def yJ26_init : MethodName := ⟨RJ26, "<init>", "(Ljava/util/ArrayList;)V"⟩
abbrev cJ26_hasNext : ByteArray := prog_46_method_2_code
def yJ26_hasNext : MethodName := ⟨RJ26, "hasNext", "()Z"⟩
abbrev cJ26_next : ByteArray := prog_46_method_3_code
def yJ26_next : MethodName := ⟨RJ26, "next", "()Ljava/lang/Object;"⟩
abbrev cJ26_checkForComodification : ByteArray := prog_46_method_6_code
def yJ26_checkForComodification : MethodName := ⟨RJ26, "checkForComodification", "()V"⟩
abbrev cJ26_remove : ByteArray := prog_46_method_4_code
def yJ26_remove : MethodName := ⟨RJ26, "remove", "()V"⟩
def RJ28 : String := "java/util/LinkedList$ListItr"
def TJ28 : u_T := fun k => match k with
  | 0 => ("java/util/LinkedList$ListItr", "lastReturned", "Ljava/util/LinkedList$Node;", false)
  | 1 => ("java/util/LinkedList$ListItr", "next", "Ljava/util/LinkedList$Node;", false)
  | 2 => ("java/util/LinkedList$ListItr", "nextIndex", "I", false)
  | 3 => ("java/util/LinkedList$ListItr", "expectedModCount", "I", false)
  | _ => ("java/util/LinkedList$ListItr", "this$0", "Ljava/util/LinkedList;", true)
def tyJ28 : Nat → FieldType := fun k => match k with
  | 0 => .object "java/util/LinkedList$Node"
  | 1 => .object "java/util/LinkedList$Node"
  | 2 => .int
  | 3 => .int
  | _ => .object "java/util/LinkedList"
abbrev wsJ280 : List Cond := u_ws RJ28 TJ28 5
theorem nmJ28 : ∀ a, a < 5 → ∀ b, b < 5 → a ≠ b → (TJ28 a).2.1 ≠ (TJ28 b).2.1 := by decide +kernel
theorem tyJ28_ok : ∀ k, k < 5 → parseFieldDescriptor (TJ28 k).2.2.1 = some (tyJ28 k) := by decide +kernel
abbrev cJ28_init : ByteArray := prog_56_method_1_code
def yJ28_init : MethodName := ⟨RJ28, "<init>", "(Ljava/util/LinkedList;I)V"⟩
abbrev cJ28_hasPrevious : ByteArray := prog_56_method_4_code
def yJ28_hasPrevious : MethodName := ⟨RJ28, "hasPrevious", "()Z"⟩
abbrev cJ28_hasNext : ByteArray := prog_56_method_2_code
def yJ28_hasNext : MethodName := ⟨RJ28, "hasNext", "()Z"⟩
abbrev cJ28_previous : ByteArray := prog_56_method_5_code
def yJ28_previous : MethodName := ⟨RJ28, "previous", "()Ljava/lang/Object;"⟩
abbrev cJ28_checkForComodification : ByteArray := prog_56_method_12_code
def yJ28_checkForComodification : MethodName := ⟨RJ28, "checkForComodification", "()V"⟩
abbrev cJ28_next : ByteArray := prog_56_method_3_code
def yJ28_next : MethodName := ⟨RJ28, "next", "()Ljava/lang/Object;"⟩
abbrev cJ28_remove : ByteArray := prog_56_method_8_code
def yJ28_remove : MethodName := ⟨RJ28, "remove", "()V"⟩
def RJ29 : String := "java/util/Objects"
abbrev cJ29_checkIndex : ByteArray := prog_61_method_17_code
def yJ29_checkIndex : MethodName := ⟨RJ29, "checkIndex", "(II)I"⟩
def RJ32 : String := "java/util/LinkedList$DescendingIterator"
def TJ32 : u_T := fun k => match k with
  | 0 => ("java/util/LinkedList$DescendingIterator", "itr", "Ljava/util/LinkedList$ListItr;", true)
  | _ => ("java/util/LinkedList$DescendingIterator", "this$0", "Ljava/util/LinkedList;", true)
def tyJ32 : Nat → FieldType := fun k => match k with
  | 0 => .object "java/util/LinkedList$ListItr"
  | _ => .object "java/util/LinkedList"
abbrev wsJ320 : List Cond := u_ws RJ32 TJ32 2
theorem nmJ32 : ∀ a, a < 2 → ∀ b, b < 2 → a ≠ b → (TJ32 a).2.1 ≠ (TJ32 b).2.1 := by decide +kernel
theorem tyJ32_ok : ∀ k, k < 2 → parseFieldDescriptor (TJ32 k).2.2.1 = some (tyJ32 k) := by decide +kernel
abbrev cJ32_hasNext : ByteArray := prog_55_method_2_code
def yJ32_hasNext : MethodName := ⟨RJ32, "hasNext", "()Z"⟩
abbrev cJ32_next : ByteArray := prog_55_method_3_code
def yJ32_next : MethodName := ⟨RJ32, "next", "()Ljava/lang/Object;"⟩
abbrev cJ32_remove : ByteArray := prog_55_method_4_code
def yJ32_remove : MethodName := ⟨RJ32, "remove", "()V"⟩
abbrev cJ32_init : ByteArray := prog_55_method_1_code
def yJ32_init : MethodName := ⟨RJ32, "<init>", "(Ljava/util/LinkedList;)V"⟩
def RJ35 : String := "java/util/ArrayDeque$DeqIterator"
def TJ35 : u_T := fun k => match k with
  | 0 => ("java/util/ArrayDeque$DeqIterator", "cursor", "I", false)
  | 1 => ("java/util/ArrayDeque$DeqIterator", "remaining", "I", false)
  | 2 => ("java/util/ArrayDeque$DeqIterator", "lastRet", "I", false)
  | _ => ("java/util/ArrayDeque$DeqIterator", "this$0", "Ljava/util/ArrayDeque;", true)
def tyJ35 : Nat → FieldType := fun k => match k with
  | 0 => .int
  | 1 => .int
  | 2 => .int
  | _ => .object "java/util/ArrayDeque"
abbrev wsJ350 : List Cond := u_ws RJ35 TJ35 4
theorem nmJ35 : ∀ a, a < 4 → ∀ b, b < 4 → a ≠ b → (TJ35 a).2.1 ≠ (TJ35 b).2.1 := by decide +kernel
theorem tyJ35_ok : ∀ k, k < 4 → parseFieldDescriptor (TJ35 k).2.2.1 = some (tyJ35 k) := by decide +kernel
abbrev cJ35_hasNext : ByteArray := prog_44_method_2_code
def yJ35_hasNext : MethodName := ⟨RJ35, "hasNext", "()Z"⟩
abbrev cJ35_next : ByteArray := prog_44_method_3_code
def yJ35_next : MethodName := ⟨RJ35, "next", "()Ljava/lang/Object;"⟩
abbrev cJ35_init : ByteArray := prog_44_method_1_code
def yJ35_init : MethodName := ⟨RJ35, "<init>", "(Ljava/util/ArrayDeque;)V"⟩
abbrev cJ35_remove : ByteArray := prog_44_method_5_code
def yJ35_remove : MethodName := ⟨RJ35, "remove", "()V"⟩
abbrev cJ35_postDelete : ByteArray := prog_44_method_4_code
def yJ35_postDelete : MethodName := ⟨RJ35, "postDelete", "(Z)V"⟩
def RJ36 : String := "java/lang/Object"
abbrev cJ36_init : ByteArray := object_method_1_code
def yJ36_init : MethodName := ⟨RJ36, "<init>", "()V"⟩
abbrev cJ36_equals : ByteArray := object_method_4_code
def yJ36_equals : MethodName := ⟨RJ36, "equals", "(Ljava/lang/Object;)Z"⟩
def RJ15 : String := "jdk/internal/util/ArraysSupport"
abbrev cJ15_newLength : ByteArray := prog_65_method_27_code
def yJ15_newLength : MethodName := ⟨RJ15, "newLength", "(III)I"⟩
abbrev cJ15_hugeLength : ByteArray := prog_65_method_28_code
def yJ15_hugeLength : MethodName := ⟨RJ15, "hugeLength", "(II)I"⟩
def RJ18 : String := "jdk/internal/util/Preconditions"
abbrev cJ18_checkFromToIndex : ByteArray := prog_66_method_12_code
def yJ18_checkFromToIndex : MethodName := ⟨RJ18, "checkFromToIndex", "(IIILjava/util/function/BiFunction;)I"⟩
abbrev cJ18_checkFromIndexSize : ByteArray := prog_66_method_13_code
def yJ18_checkFromIndexSize : MethodName := ⟨RJ18, "checkFromIndexSize", "(IIILjava/util/function/BiFunction;)I"⟩
abbrev cJ18_checkIndex : ByteArray := prog_66_method_11_code
def yJ18_checkIndex : MethodName := ⟨RJ18, "checkIndex", "(IILjava/util/function/BiFunction;)I"⟩
def RJ33 : String := "java/lang/Character"
abbrev cJ33_isValidCodePoint : ByteArray := prog_17_method_11_code
def yJ33_isValidCodePoint : MethodName := ⟨RJ33, "isValidCodePoint", "(I)Z"⟩
abbrev cJ33_highSurrogate : ByteArray := prog_17_method_28_code
def yJ33_highSurrogate : MethodName := ⟨RJ33, "highSurrogate", "(I)C"⟩
abbrev cJ33_lowSurrogate : ByteArray := prog_17_method_29_code
def yJ33_lowSurrogate : MethodName := ⟨RJ33, "lowSurrogate", "(I)C"⟩
def RJ10 : String := "java/lang/RuntimeException"
abbrev cJ10_init : ByteArray := prog_29_method_2_code
def yJ10_init : MethodName := ⟨RJ10, "<init>", "(Ljava/lang/String;)V"⟩
abbrev cJ10_init_2 : ByteArray := prog_29_method_4_code
def yJ10_init_2 : MethodName := ⟨RJ10, "<init>", "(Ljava/lang/Throwable;)V"⟩
abbrev cJ10_init_3 : ByteArray := prog_29_method_1_code
def yJ10_init_3 : MethodName := ⟨RJ10, "<init>", "()V"⟩
def RJ11 : String := "java/lang/IndexOutOfBoundsException"
abbrev cJ11_init : ByteArray := prog_23_method_2_code
def yJ11_init : MethodName := ⟨RJ11, "<init>", "(Ljava/lang/String;)V"⟩
abbrev cJ11_init_2 : ByteArray := prog_23_method_1_code
def yJ11_init_2 : MethodName := ⟨RJ11, "<init>", "()V"⟩
def RJ12 : String := "java/lang/AbstractStringBuilder"
abbrev cJ12_init : ByteArray := prog_13_method_2_code
def yJ12_init : MethodName := ⟨RJ12, "<init>", "(I)V"⟩
abbrev cJ12_append : ByteArray := prog_13_method_22_code
def yJ12_append : MethodName := ⟨RJ12, "append", "(Ljava/lang/String;)Ljava/lang/AbstractStringBuilder;"⟩
abbrev cJ12_appendNull : ByteArray := prog_13_method_26_code
def yJ12_appendNull : MethodName := ⟨RJ12, "appendNull", "()Ljava/lang/AbstractStringBuilder;"⟩
abbrev cJ12_ensureCapacityInternal : ByteArray := prog_13_method_9_code
def yJ12_ensureCapacityInternal : MethodName := ⟨RJ12, "ensureCapacityInternal", "(I)V"⟩
abbrev cJ12_newCapacity : ByteArray := prog_13_method_10_code
def yJ12_newCapacity : MethodName := ⟨RJ12, "newCapacity", "(I)I"⟩
abbrev cJ12_isLatin1 : ByteArray := prog_13_method_68_code
def yJ12_isLatin1 : MethodName := ⟨RJ12, "isLatin1", "()Z"⟩
abbrev cJ12_putStringAt : ByteArray := prog_13_method_73_code
def yJ12_putStringAt : MethodName := ⟨RJ12, "putStringAt", "(ILjava/lang/String;)V"⟩
abbrev cJ12_inflateIfNeededFor : ByteArray := prog_13_method_71_code
def yJ12_inflateIfNeededFor : MethodName := ⟨RJ12, "inflateIfNeededFor", "(Ljava/lang/String;)V"⟩
abbrev cJ12_inflate : ByteArray := prog_13_method_11_code
def yJ12_inflate : MethodName := ⟨RJ12, "inflate", "()V"⟩
abbrev cJ12_append_2 : ByteArray := prog_13_method_32_code
def yJ12_append_2 : MethodName := ⟨RJ12, "append", "(I)Ljava/lang/AbstractStringBuilder;"⟩
abbrev cJ12_getValue : ByteArray := prog_13_method_64_code
def yJ12_getValue : MethodName := ⟨RJ12, "getValue", "()[B"⟩
abbrev cJ12_length : ByteArray := prog_13_method_6_code
def yJ12_length : MethodName := ⟨RJ12, "length", "()I"⟩
def RJ13 : String := "java/lang/StringBuilder"
abbrev cJ13_init : ByteArray := prog_31_method_1_code
def yJ13_init : MethodName := ⟨RJ13, "<init>", "()V"⟩
abbrev cJ13_append : ByteArray := prog_31_method_7_code
def yJ13_append : MethodName := ⟨RJ13, "append", "(Ljava/lang/String;)Ljava/lang/StringBuilder;"⟩
abbrev cJ13_append_2 : ByteArray := prog_31_method_15_code
def yJ13_append_2 : MethodName := ⟨RJ13, "append", "(I)Ljava/lang/StringBuilder;"⟩
abbrev cJ13_toString : ByteArray := prog_31_method_42_code
def yJ13_toString : MethodName := ⟨RJ13, "toString", "()Ljava/lang/String;"⟩
abbrev cJ13_length : ByteArray := prog_31_method_93_code
def yJ13_length : MethodName := ⟨RJ13, "length", "()I"⟩
def RJ14 : String := "java/lang/StringUTF16"
abbrev cJ14_newBytesFor : ByteArray := prog_33_method_2_code
def yJ14_newBytesFor : MethodName := ⟨RJ14, "newBytesFor", "(I)[B"⟩
abbrev cJ14_newBytesLength : ByteArray := prog_33_method_3_code
def yJ14_newBytesLength : MethodName := ⟨RJ14, "newBytesLength", "(I)I"⟩
abbrev cJ14_putCharsAt : ByteArray := prog_33_method_81_code
def yJ14_putCharsAt : MethodName := ⟨RJ14, "putCharsAt", "([BICCCC)I"⟩
abbrev cJ14_checkBoundsBeginEnd : ByteArray := prog_33_method_93_code
def yJ14_checkBoundsBeginEnd : MethodName := ⟨RJ14, "checkBoundsBeginEnd", "(II[B)V"⟩
abbrev cJ14_length : ByteArray := prog_33_method_6_code
def yJ14_length : MethodName := ⟨RJ14, "length", "([B)I"⟩
abbrev cJ14_putChar : ByteArray := prog_33_method_4_code
def yJ14_putChar : MethodName := ⟨RJ14, "putChar", "([BII)V"⟩
abbrev cJ14_inflate : ByteArray := prog_33_method_86_code
def yJ14_inflate : MethodName := ⟨RJ14, "inflate", "([BI[BII)V"⟩
abbrev cJ14_checkBoundsOffCount : ByteArray := prog_33_method_94_code
def yJ14_checkBoundsOffCount : MethodName := ⟨RJ14, "checkBoundsOffCount", "(II[B)V"⟩
abbrev cJ14_getChars : ByteArray := prog_33_method_77_code
def yJ14_getChars : MethodName := ⟨RJ14, "getChars", "(III[B)I"⟩
abbrev cJ14_getChars_2 : ByteArray := prog_33_method_89_code
def yJ14_getChars_2 : MethodName := ⟨RJ14, "getChars", "(II[B)I"⟩
abbrev cJ14_compress : ByteArray := prog_33_method_17_code
def yJ14_compress : MethodName := ⟨RJ14, "compress", "([BII)[B"⟩
abbrev cJ14_compress_2 : ByteArray := prog_33_method_22_code
def yJ14_compress_2 : MethodName := ⟨RJ14, "compress", "([BI[BII)I"⟩
abbrev cJ14_getChar : ByteArray := prog_33_method_5_code
def yJ14_getChar : MethodName := ⟨RJ14, "getChar", "([BI)C"⟩
abbrev cJ14_coderFromArrayLen : ByteArray := prog_33_method_15_code
def yJ14_coderFromArrayLen : MethodName := ⟨RJ14, "coderFromArrayLen", "([BI)B"⟩
abbrev cJ14_indexOf : ByteArray := prog_33_method_40_code
def yJ14_indexOf : MethodName := ⟨RJ14, "indexOf", "([BIII)I"⟩
abbrev cJ14_indexOfChar : ByteArray := prog_33_method_47_code
def yJ14_indexOfChar : MethodName := ⟨RJ14, "indexOfChar", "([BIII)I"⟩
abbrev cJ14_indexOfCharUnsafe : ByteArray := prog_33_method_48_code
def yJ14_indexOfCharUnsafe : MethodName := ⟨RJ14, "indexOfCharUnsafe", "([BIII)I"⟩
abbrev cJ14_indexOfSupplementary : ByteArray := prog_33_method_49_code
def yJ14_indexOfSupplementary : MethodName := ⟨RJ14, "indexOfSupplementary", "([BIII)I"⟩
def RJ20 : String := "java/lang/Number"
abbrev cJ20_init : ByteArray := prog_28_method_1_code
def yJ20_init : MethodName := ⟨RJ20, "<init>", "()V"⟩
def RJ22 : String := "java/lang/IllegalArgumentException"
abbrev cJ22_init : ByteArray := prog_21_method_2_code
def yJ22_init : MethodName := ⟨RJ22, "<init>", "(Ljava/lang/String;)V"⟩
abbrev cJ22_init_2 : ByteArray := prog_21_method_1_code
def yJ22_init_2 : MethodName := ⟨RJ22, "<init>", "()V"⟩
def RJ23 : String := "java/lang/IllegalStateException"
abbrev cJ23_init : ByteArray := prog_22_method_2_code
def yJ23_init : MethodName := ⟨RJ23, "<init>", "(Ljava/lang/String;)V"⟩
abbrev cJ23_init_2 : ByteArray := prog_22_method_1_code
def yJ23_init_2 : MethodName := ⟨RJ23, "<init>", "()V"⟩
def RJ25 : String := "java/util/AbstractList$Itr"
abbrev cJ25_hasNext : ByteArray := prog_40_method_2_code
def yJ25_hasNext : MethodName := ⟨RJ25, "hasNext", "()Z"⟩
abbrev cJ25_next : ByteArray := prog_40_method_3_code
def yJ25_next : MethodName := ⟨RJ25, "next", "()Ljava/lang/Object;"⟩
abbrev cJ25_checkForComodification : ByteArray := prog_40_method_5_code
def yJ25_checkForComodification : MethodName := ⟨RJ25, "checkForComodification", "()V"⟩
abbrev cJ25_remove : ByteArray := prog_40_method_4_code
def yJ25_remove : MethodName := ⟨RJ25, "remove", "()V"⟩
def RJ27 : String := "java/util/ArrayList$ListItr"
abbrev cJ27_init : ByteArray := prog_47_method_1_code
def yJ27_init : MethodName := ⟨RJ27, "<init>", "(Ljava/util/ArrayList;I)V"⟩
def RJ30 : String := "java/util/NoSuchElementException"
abbrev cJ30_init : ByteArray := prog_60_method_3_code
def yJ30_init : MethodName := ⟨RJ30, "<init>", "(Ljava/lang/Throwable;)V"⟩
abbrev cJ30_init_2 : ByteArray := prog_60_method_1_code
def yJ30_init_2 : MethodName := ⟨RJ30, "<init>", "()V"⟩
def RJ31 : String := "java/util/ConcurrentModificationException"
abbrev cJ31_init : ByteArray := prog_51_method_1_code
def yJ31_init : MethodName := ⟨RJ31, "<init>", "()V"⟩
def RJ34 : String := "java/lang/ArrayIndexOutOfBoundsException"
abbrev cJ34_init : ByteArray := prog_15_method_2_code
def yJ34_init : MethodName := ⟨RJ34, "<init>", "(Ljava/lang/String;)V"⟩
def RJ8 : String := "java/lang/Throwable"
abbrev cJ8_init : ByteArray := prog_35_method_1_code
def yJ8_init : MethodName := ⟨RJ8, "<init>", "()V"⟩
abbrev cJ8_init_2 : ByteArray := prog_35_method_2_code
def yJ8_init_2 : MethodName := ⟨RJ8, "<init>", "(Ljava/lang/String;)V"⟩
abbrev cJ8_init_3 : ByteArray := prog_35_method_4_code
def yJ8_init_3 : MethodName := ⟨RJ8, "<init>", "(Ljava/lang/Throwable;)V"⟩
abbrev cJ8_toString : ByteArray := prog_35_method_11_code
def yJ8_toString : MethodName := ⟨RJ8, "toString", "()Ljava/lang/String;"⟩
abbrev cJ8_getLocalizedMessage : ByteArray := prog_35_method_7_code
def yJ8_getLocalizedMessage : MethodName := ⟨RJ8, "getLocalizedMessage", "()Ljava/lang/String;"⟩
abbrev cJ8_getMessage : ByteArray := prog_35_method_6_code
def yJ8_getMessage : MethodName := ⟨RJ8, "getMessage", "()Ljava/lang/String;"⟩
def RJ9 : String := "java/lang/Exception"
abbrev cJ9_init : ByteArray := prog_20_method_2_code
def yJ9_init : MethodName := ⟨RJ9, "<init>", "(Ljava/lang/String;)V"⟩
abbrev cJ9_init_2 : ByteArray := prog_20_method_4_code
def yJ9_init_2 : MethodName := ⟨RJ9, "<init>", "(Ljava/lang/Throwable;)V"⟩
abbrev cJ9_init_3 : ByteArray := prog_20_method_1_code
def yJ9_init_3 : MethodName := ⟨RJ9, "<init>", "()V"⟩
theorem q108 : (Jvm.Cond.initialized "ReorderiumLaw") ∈ lw_all := lw_g (lw_at lw_m1 0 rfl) rfl
theorem q157 : (Jvm.Cond.classLink "ReorderiumLaw" (8 : Nat) "Reorderium") ∈ lw_all := lw_g (lw_at lw_m1 49 rfl) rfl
theorem q159 : (Jvm.Cond.methodLink "ReorderiumLaw" (127 : Nat) ({ cls := "Reorderium", name := "<init>", desc := "()V" } : Jvm.MethodName)) ∈ lw_all := lw_g (lw_at lw_m1 51 rfl) rfl
theorem q864 : (Jvm.Cond.methodLink "ReorderiumLaw" (166 : Nat) ({ cls := "Reorderium", name := "interrupt", desc := "()Z" } : Jvm.MethodName)) ∈ lw_all := lw_g (lw_at lw_m4 36 rfl) rfl
theorem q868 : (Jvm.Cond.methodLink "ReorderiumLaw" (174 : Nat) ({ cls := "Reorderium", name := "cycle", desc := "()I" } : Jvm.MethodName)) ∈ lw_all := lw_g (lw_at lw_m4 40 rfl) rfl
theorem q872 : (Jvm.Cond.methodLink "ReorderiumLaw" (178 : Nat) ({ cls := "Reorderium", name := "hasStopped", desc := "()Z" } : Jvm.MethodName)) ∈ lw_all := lw_g (lw_at lw_m4 44 rfl) rfl
theorem q876 : (Jvm.Cond.methodLink "ReorderiumLaw" (182 : Nat) ({ cls := "Reorderium", name := "ends", desc := "()I" } : Jvm.MethodName)) ∈ lw_all := lw_g (lw_at lw_m4 48 rfl) rfl
theorem q896 : (Jvm.Cond.methodLink "ReorderiumLaw" (229 : Nat) ({ cls := "Reorderium", name := "free", desc := "()I" } : Jvm.MethodName)) ∈ lw_all := lw_g (lw_at lw_m4 68 rfl) rfl
theorem q907 : (Jvm.Cond.methodLink "ReorderiumLaw" (236 : Nat) ({ cls := "Reorderium", name := "inBuffer", desc := "()I" } : Jvm.MethodName)) ∈ lw_all := lw_g (lw_at lw_m4 79 rfl) rfl
theorem q912 : (Jvm.Cond.methodLink "ReorderiumLaw" (246 : Nat) ({ cls := "Reorderium", name := "inQueue", desc := "()I" } : Jvm.MethodName)) ∈ lw_all := lw_g (lw_at lw_m4 84 rfl) rfl
theorem q916 : (Jvm.Cond.methodLink "ReorderiumLaw" (250 : Nat) ({ cls := "Reorderium", name := "fetched", desc := "()I" } : Jvm.MethodName)) ∈ lw_all := lw_g (lw_at lw_m4 88 rfl) rfl
theorem q920 : (Jvm.Cond.methodLink "ReorderiumLaw" (257 : Nat) ({ cls := "Reorderium", name := "returns", desc := "()I" } : Jvm.MethodName)) ∈ lw_all := lw_g (lw_at lw_m4 92 rfl) rfl
theorem q924 : (Jvm.Cond.methodLink "ReorderiumLaw" (273 : Nat) ({ cls := "Reorderium", name := "asked", desc := "()I" } : Jvm.MethodName)) ∈ lw_all := lw_g (lw_at lw_m4 96 rfl) rfl
theorem q928 : (Jvm.Cond.methodLink "ReorderiumLaw" (281 : Nat) ({ cls := "Reorderium", name := "wrong", desc := "()I" } : Jvm.MethodName)) ∈ lw_all := lw_g (lw_at lw_m4 100 rfl) rfl
theorem q932 : (Jvm.Cond.methodLink "ReorderiumLaw" (285 : Nat) ({ cls := "Reorderium", name := "early", desc := "()I" } : Jvm.MethodName)) ∈ lw_all := lw_g (lw_at lw_m4 104 rfl) rfl
theorem q936 : (Jvm.Cond.methodLink "ReorderiumLaw" (289 : Nat) ({ cls := "Reorderium", name := "thrownAway", desc := "()I" } : Jvm.MethodName)) ∈ lw_all := lw_g (lw_at lw_m4 108 rfl) rfl
theorem q940 : (Jvm.Cond.methodLink "ReorderiumLaw" (293 : Nat) ({ cls := "Reorderium", name := "taken", desc := "()I" } : Jvm.MethodName)) ∈ lw_all := lw_g (lw_at lw_m4 112 rfl) rfl
theorem q944 : (Jvm.Cond.methodLink "ReorderiumLaw" (297 : Nat) ({ cls := "Reorderium", name := "hits", desc := "()J" } : Jvm.MethodName)) ∈ lw_all := lw_g (lw_at lw_m4 116 rfl) rfl
theorem q948 : (Jvm.Cond.methodLink "ReorderiumLaw" (306 : Nat) ({ cls := "Reorderium", name := "isSame", desc := "()Z" } : Jvm.MethodName)) ∈ lw_all := lw_g (lw_at lw_m4 120 rfl) rfl
theorem q1428 : (Jvm.Cond.methodLink "ReorderiumLaw" (310 : Nat) ({ cls := "Reorderium", name := "isWhole", desc := "()Z" } : Jvm.MethodName)) ∈ lw_all := lw_g (lw_at lw_m6 120 rfl) rfl
theorem q1469 : (Jvm.Cond.methodLink "ReorderiumLaw" (131 : Nat) ({ cls := "ReorderiumLaw", name := "add", desc := "(LReorderium;IIIII[J)I" } : Jvm.MethodName)) ∈ lw_all := lw_g (lw_at lw_m6 161 rfl) rfl
theorem q1470 : (Jvm.Cond.static ({ cls := "ReorderiumLaw", name := "add", desc := "(LReorderium;IIIII[J)I" } : Jvm.MethodName)) ∈ lw_all := lw_g (lw_at lw_m6 162 rfl) rfl
theorem q1471 : (Jvm.Cond.codeWith ({ cls := "ReorderiumLaw", name := "add", desc := "(LReorderium;IIIII[J)I" } : Jvm.MethodName) method_3_code (8 : Nat) (Option.some Jvm.ClassFile.FieldType.int) [((0 : Nat), (16 : Nat), (19 : Nat), (13 : Nat)), ((0 : Nat), (16 : Nat), (23 : Nat), (15 : Nat))]) ∈ lw_all := lw_g (lw_at lw_m6 163 rfl) rfl
theorem q1472 : (Jvm.Cond.classLink "ReorderiumLaw" (13 : Nat) "java/lang/IllegalArgumentException") ∈ lw_all := lw_g (lw_at lw_m6 164 rfl) rfl
theorem q1473 : (Jvm.Cond.classLink "ReorderiumLaw" (15 : Nat) "java/lang/IllegalStateException") ∈ lw_all := lw_g (lw_at lw_m6 165 rfl) rfl
theorem q1474 : (Jvm.Cond.methodLink "ReorderiumLaw" (7 : Nat) ({ cls := "Reorderium", name := "add", desc := "(IIIII)I" } : Jvm.MethodName)) ∈ lw_all := lw_g (lw_at lw_m6 166 rfl) rfl
theorem q1591 : (Jvm.Cond.methodLink "ReorderiumLaw" (140 : Nat) ({ cls := "ReorderiumLaw", name := "setRegister", desc := "(LReorderium;II[J)I" } : Jvm.MethodName)) ∈ lw_all := lw_g (lw_at lw_m7 43 rfl) rfl
theorem q1592 : (Jvm.Cond.static ({ cls := "ReorderiumLaw", name := "setRegister", desc := "(LReorderium;II[J)I" } : Jvm.MethodName)) ∈ lw_all := lw_g (lw_at lw_m7 44 rfl) rfl
theorem q1593 : (Jvm.Cond.codeWith ({ cls := "ReorderiumLaw", name := "setRegister", desc := "(LReorderium;II[J)I" } : Jvm.MethodName) method_4_code (5 : Nat) (Option.some Jvm.ClassFile.FieldType.int) [((0 : Nat), (10 : Nat), (13 : Nat), (13 : Nat)), ((0 : Nat), (10 : Nat), (17 : Nat), (15 : Nat))]) ∈ lw_all := lw_g (lw_at lw_m7 45 rfl) rfl
theorem q1594 : (Jvm.Cond.methodLink "ReorderiumLaw" (17 : Nat) ({ cls := "Reorderium", name := "setRegister", desc := "(II)I" } : Jvm.MethodName)) ∈ lw_all := lw_g (lw_at lw_m7 46 rfl) rfl
theorem q1598 : (Jvm.Cond.methodLink "ReorderiumLaw" (144 : Nat) ({ cls := "ReorderiumLaw", name := "setWord", desc := "(LReorderium;II[J)I" } : Jvm.MethodName)) ∈ lw_all := lw_g (lw_at lw_m7 50 rfl) rfl
theorem q1599 : (Jvm.Cond.static ({ cls := "ReorderiumLaw", name := "setWord", desc := "(LReorderium;II[J)I" } : Jvm.MethodName)) ∈ lw_all := lw_g (lw_at lw_m7 51 rfl) rfl
theorem q1600 : (Jvm.Cond.codeWith ({ cls := "ReorderiumLaw", name := "setWord", desc := "(LReorderium;II[J)I" } : Jvm.MethodName) method_5_code (5 : Nat) (Option.some Jvm.ClassFile.FieldType.int) [((0 : Nat), (10 : Nat), (13 : Nat), (13 : Nat)), ((0 : Nat), (10 : Nat), (17 : Nat), (15 : Nat))]) ∈ lw_all := lw_g (lw_at lw_m7 52 rfl) rfl
theorem q1601 : (Jvm.Cond.methodLink "ReorderiumLaw" (21 : Nat) ({ cls := "Reorderium", name := "setWord", desc := "(II)I" } : Jvm.MethodName)) ∈ lw_all := lw_g (lw_at lw_m7 53 rfl) rfl
theorem q1606 : (Jvm.Cond.methodLink "ReorderiumLaw" (147 : Nat) ({ cls := "ReorderiumLaw", name := "setWidth", desc := "(LReorderium;I[J)I" } : Jvm.MethodName)) ∈ lw_all := lw_g (lw_at lw_m7 58 rfl) rfl
theorem q1607 : (Jvm.Cond.static ({ cls := "ReorderiumLaw", name := "setWidth", desc := "(LReorderium;I[J)I" } : Jvm.MethodName)) ∈ lw_all := lw_g (lw_at lw_m7 59 rfl) rfl
theorem q1608 : (Jvm.Cond.codeWith ({ cls := "ReorderiumLaw", name := "setWidth", desc := "(LReorderium;I[J)I" } : Jvm.MethodName) method_6_code (4 : Nat) (Option.some Jvm.ClassFile.FieldType.int) [((0 : Nat), (9 : Nat), (12 : Nat), (13 : Nat)), ((0 : Nat), (9 : Nat), (15 : Nat), (15 : Nat))]) ∈ lw_all := lw_g (lw_at lw_m7 60 rfl) rfl
theorem q1609 : (Jvm.Cond.methodLink "ReorderiumLaw" (24 : Nat) ({ cls := "Reorderium", name := "setWidth", desc := "(I)I" } : Jvm.MethodName)) ∈ lw_all := lw_g (lw_at lw_m7 61 rfl) rfl
theorem q1613 : (Jvm.Cond.methodLink "ReorderiumLaw" (151 : Nat) ({ cls := "ReorderiumLaw", name := "setBuffer", desc := "(LReorderium;I[J)I" } : Jvm.MethodName)) ∈ lw_all := lw_g (lw_at lw_m7 65 rfl) rfl
theorem q1614 : (Jvm.Cond.static ({ cls := "ReorderiumLaw", name := "setBuffer", desc := "(LReorderium;I[J)I" } : Jvm.MethodName)) ∈ lw_all := lw_g (lw_at lw_m7 66 rfl) rfl
theorem q1615 : (Jvm.Cond.codeWith ({ cls := "ReorderiumLaw", name := "setBuffer", desc := "(LReorderium;I[J)I" } : Jvm.MethodName) method_7_code (4 : Nat) (Option.some Jvm.ClassFile.FieldType.int) [((0 : Nat), (9 : Nat), (12 : Nat), (13 : Nat)), ((0 : Nat), (9 : Nat), (15 : Nat), (15 : Nat))]) ∈ lw_all := lw_g (lw_at lw_m7 67 rfl) rfl
theorem q1616 : (Jvm.Cond.methodLink "ReorderiumLaw" (28 : Nat) ({ cls := "Reorderium", name := "setBuffer", desc := "(I)I" } : Jvm.MethodName)) ∈ lw_all := lw_g (lw_at lw_m7 68 rfl) rfl
theorem q1620 : (Jvm.Cond.methodLink "ReorderiumLaw" (154 : Nat) ({ cls := "ReorderiumLaw", name := "setQueue", desc := "(LReorderium;I[J)I" } : Jvm.MethodName)) ∈ lw_all := lw_g (lw_at lw_m7 72 rfl) rfl
theorem q1621 : (Jvm.Cond.static ({ cls := "ReorderiumLaw", name := "setQueue", desc := "(LReorderium;I[J)I" } : Jvm.MethodName)) ∈ lw_all := lw_g (lw_at lw_m7 73 rfl) rfl
theorem q1622 : (Jvm.Cond.codeWith ({ cls := "ReorderiumLaw", name := "setQueue", desc := "(LReorderium;I[J)I" } : Jvm.MethodName) method_8_code (4 : Nat) (Option.some Jvm.ClassFile.FieldType.int) [((0 : Nat), (9 : Nat), (12 : Nat), (13 : Nat)), ((0 : Nat), (9 : Nat), (15 : Nat), (15 : Nat))]) ∈ lw_all := lw_g (lw_at lw_m7 74 rfl) rfl
theorem q1623 : (Jvm.Cond.methodLink "ReorderiumLaw" (31 : Nat) ({ cls := "Reorderium", name := "setQueue", desc := "(I)I" } : Jvm.MethodName)) ∈ lw_all := lw_g (lw_at lw_m7 75 rfl) rfl
theorem q1627 : (Jvm.Cond.methodLink "ReorderiumLaw" (157 : Nat) ({ cls := "ReorderiumLaw", name := "setInner", desc := "(LReorderium;I[J)I" } : Jvm.MethodName)) ∈ lw_all := lw_g (lw_at lw_m7 79 rfl) rfl
theorem q1628 : (Jvm.Cond.static ({ cls := "ReorderiumLaw", name := "setInner", desc := "(LReorderium;I[J)I" } : Jvm.MethodName)) ∈ lw_all := lw_g (lw_at lw_m7 80 rfl) rfl
theorem q1629 : (Jvm.Cond.codeWith ({ cls := "ReorderiumLaw", name := "setInner", desc := "(LReorderium;I[J)I" } : Jvm.MethodName) method_9_code (4 : Nat) (Option.some Jvm.ClassFile.FieldType.int) [((0 : Nat), (9 : Nat), (12 : Nat), (13 : Nat)), ((0 : Nat), (9 : Nat), (15 : Nat), (15 : Nat))]) ∈ lw_all := lw_g (lw_at lw_m7 81 rfl) rfl
theorem q1630 : (Jvm.Cond.methodLink "ReorderiumLaw" (34 : Nat) ({ cls := "Reorderium", name := "setInner", desc := "(I)I" } : Jvm.MethodName)) ∈ lw_all := lw_g (lw_at lw_m7 82 rfl) rfl
theorem q1634 : (Jvm.Cond.methodLink "ReorderiumLaw" (160 : Nat) ({ cls := "ReorderiumLaw", name := "setHandlers", desc := "(LReorderium;II[J)I" } : Jvm.MethodName)) ∈ lw_all := lw_g (lw_at lw_m7 86 rfl) rfl
theorem q1635 : (Jvm.Cond.static ({ cls := "ReorderiumLaw", name := "setHandlers", desc := "(LReorderium;II[J)I" } : Jvm.MethodName)) ∈ lw_all := lw_g (lw_at lw_m7 87 rfl) rfl
theorem q1636 : (Jvm.Cond.codeWith ({ cls := "ReorderiumLaw", name := "setHandlers", desc := "(LReorderium;II[J)I" } : Jvm.MethodName) method_10_code (5 : Nat) (Option.some Jvm.ClassFile.FieldType.int) [((0 : Nat), (10 : Nat), (13 : Nat), (13 : Nat)), ((0 : Nat), (10 : Nat), (17 : Nat), (15 : Nat))]) ∈ lw_all := lw_g (lw_at lw_m7 88 rfl) rfl
theorem q1637 : (Jvm.Cond.methodLink "ReorderiumLaw" (37 : Nat) ({ cls := "Reorderium", name := "setHandlers", desc := "(II)I" } : Jvm.MethodName)) ∈ lw_all := lw_g (lw_at lw_m7 89 rfl) rfl
theorem q1641 : (Jvm.Cond.methodLink "ReorderiumLaw" (163 : Nat) ({ cls := "ReorderiumLaw", name := "setTime", desc := "(LReorderium;II[J)I" } : Jvm.MethodName)) ∈ lw_all := lw_g (lw_at lw_m7 93 rfl) rfl
theorem q1642 : (Jvm.Cond.static ({ cls := "ReorderiumLaw", name := "setTime", desc := "(LReorderium;II[J)I" } : Jvm.MethodName)) ∈ lw_all := lw_g (lw_at lw_m7 94 rfl) rfl
theorem q1643 : (Jvm.Cond.codeWith ({ cls := "ReorderiumLaw", name := "setTime", desc := "(LReorderium;II[J)I" } : Jvm.MethodName) method_11_code (5 : Nat) (Option.some Jvm.ClassFile.FieldType.int) [((0 : Nat), (10 : Nat), (13 : Nat), (13 : Nat))]) ∈ lw_all := lw_g (lw_at lw_m7 95 rfl) rfl
theorem q1644 : (Jvm.Cond.methodLink "ReorderiumLaw" (40 : Nat) ({ cls := "Reorderium", name := "setTime", desc := "(II)I" } : Jvm.MethodName)) ∈ lw_all := lw_g (lw_at lw_m7 96 rfl) rfl
theorem q1648 : (Jvm.Cond.methodLink "ReorderiumLaw" (171 : Nat) ({ cls := "ReorderiumLaw", name := "run", desc := "(LReorderium;I[J)I" } : Jvm.MethodName)) ∈ lw_all := lw_g (lw_at lw_m7 100 rfl) rfl
theorem q1649 : (Jvm.Cond.static ({ cls := "ReorderiumLaw", name := "run", desc := "(LReorderium;I[J)I" } : Jvm.MethodName)) ∈ lw_all := lw_g (lw_at lw_m7 101 rfl) rfl
theorem q1650 : (Jvm.Cond.codeWith ({ cls := "ReorderiumLaw", name := "run", desc := "(LReorderium;I[J)I" } : Jvm.MethodName) method_12_code (4 : Nat) (Option.some Jvm.ClassFile.FieldType.int) [((0 : Nat), (9 : Nat), (12 : Nat), (13 : Nat)), ((0 : Nat), (9 : Nat), (15 : Nat), (15 : Nat))]) ∈ lw_all := lw_g (lw_at lw_m7 102 rfl) rfl
theorem q1651 : (Jvm.Cond.methodLink "ReorderiumLaw" (43 : Nat) ({ cls := "Reorderium", name := "run", desc := "(I)I" } : Jvm.MethodName)) ∈ lw_all := lw_g (lw_at lw_m7 103 rfl) rfl
theorem q2266 : (Jvm.Cond.methodLink "ReorderiumLaw" (186 : Nat) ({ cls := "ReorderiumLaw", name := "kindAt", desc := "(LReorderium;I[J)I" } : Jvm.MethodName)) ∈ lw_all := lw_g (lw_at lw_m9 238 rfl) rfl
theorem q2267 : (Jvm.Cond.static ({ cls := "ReorderiumLaw", name := "kindAt", desc := "(LReorderium;I[J)I" } : Jvm.MethodName)) ∈ lw_all := lw_g (lw_at lw_m9 239 rfl) rfl
theorem q2268 : (Jvm.Cond.codeWith ({ cls := "ReorderiumLaw", name := "kindAt", desc := "(LReorderium;I[J)I" } : Jvm.MethodName) method_13_code (4 : Nat) (Option.some Jvm.ClassFile.FieldType.int) [((0 : Nat), (9 : Nat), (12 : Nat), (49 : Nat))]) ∈ lw_all := lw_g (lw_at lw_m10 0 rfl) rfl
theorem q2269 : (Jvm.Cond.classLink "ReorderiumLaw" (49 : Nat) "java/lang/IndexOutOfBoundsException") ∈ lw_all := lw_g (lw_at lw_m10 1 rfl) rfl
theorem q2285 : (Jvm.Cond.methodLink "ReorderiumLaw" (46 : Nat) ({ cls := "Reorderium", name := "kindAt", desc := "(I)I" } : Jvm.MethodName)) ∈ lw_all := lw_g (lw_at lw_m10 17 rfl) rfl
theorem q2301 : (Jvm.Cond.methodLink "ReorderiumLaw" (189 : Nat) ({ cls := "ReorderiumLaw", name := "placeAt", desc := "(LReorderium;I[J)I" } : Jvm.MethodName)) ∈ lw_all := lw_g (lw_at lw_m10 33 rfl) rfl
theorem q2302 : (Jvm.Cond.static ({ cls := "ReorderiumLaw", name := "placeAt", desc := "(LReorderium;I[J)I" } : Jvm.MethodName)) ∈ lw_all := lw_g (lw_at lw_m10 34 rfl) rfl
theorem q2303 : (Jvm.Cond.codeWith ({ cls := "ReorderiumLaw", name := "placeAt", desc := "(LReorderium;I[J)I" } : Jvm.MethodName) method_14_code (4 : Nat) (Option.some Jvm.ClassFile.FieldType.int) [((0 : Nat), (9 : Nat), (12 : Nat), (49 : Nat))]) ∈ lw_all := lw_g (lw_at lw_m10 35 rfl) rfl
theorem q2304 : (Jvm.Cond.methodLink "ReorderiumLaw" (51 : Nat) ({ cls := "Reorderium", name := "placeAt", desc := "(I)I" } : Jvm.MethodName)) ∈ lw_all := lw_g (lw_at lw_m10 36 rfl) rfl
theorem q2308 : (Jvm.Cond.methodLink "ReorderiumLaw" (192 : Nat) ({ cls := "ReorderiumLaw", name := "kindByPlain", desc := "(LReorderium;I[J)I" } : Jvm.MethodName)) ∈ lw_all := lw_g (lw_at lw_m10 40 rfl) rfl
theorem q2309 : (Jvm.Cond.static ({ cls := "ReorderiumLaw", name := "kindByPlain", desc := "(LReorderium;I[J)I" } : Jvm.MethodName)) ∈ lw_all := lw_g (lw_at lw_m10 41 rfl) rfl
theorem q2310 : (Jvm.Cond.codeWith ({ cls := "ReorderiumLaw", name := "kindByPlain", desc := "(LReorderium;I[J)I" } : Jvm.MethodName) method_15_code (4 : Nat) (Option.some Jvm.ClassFile.FieldType.int) [((0 : Nat), (9 : Nat), (12 : Nat), (49 : Nat))]) ∈ lw_all := lw_g (lw_at lw_m10 42 rfl) rfl
theorem q2311 : (Jvm.Cond.methodLink "ReorderiumLaw" (54 : Nat) ({ cls := "Reorderium", name := "kindByPlain", desc := "(I)I" } : Jvm.MethodName)) ∈ lw_all := lw_g (lw_at lw_m10 43 rfl) rfl
theorem q2319 : (Jvm.Cond.methodLink "ReorderiumLaw" (195 : Nat) ({ cls := "ReorderiumLaw", name := "placeByPlain", desc := "(LReorderium;I[J)I" } : Jvm.MethodName)) ∈ lw_all := lw_g (lw_at lw_m10 51 rfl) rfl
theorem q2320 : (Jvm.Cond.static ({ cls := "ReorderiumLaw", name := "placeByPlain", desc := "(LReorderium;I[J)I" } : Jvm.MethodName)) ∈ lw_all := lw_g (lw_at lw_m10 52 rfl) rfl
theorem q2321 : (Jvm.Cond.codeWith ({ cls := "ReorderiumLaw", name := "placeByPlain", desc := "(LReorderium;I[J)I" } : Jvm.MethodName) method_16_code (4 : Nat) (Option.some Jvm.ClassFile.FieldType.int) [((0 : Nat), (9 : Nat), (12 : Nat), (49 : Nat))]) ∈ lw_all := lw_g (lw_at lw_m10 53 rfl) rfl
theorem q2322 : (Jvm.Cond.methodLink "ReorderiumLaw" (57 : Nat) ({ cls := "Reorderium", name := "placeByPlain", desc := "(I)I" } : Jvm.MethodName)) ∈ lw_all := lw_g (lw_at lw_m10 54 rfl) rfl
theorem q2326 : (Jvm.Cond.methodLink "ReorderiumLaw" (198 : Nat) ({ cls := "ReorderiumLaw", name := "register", desc := "(LReorderium;I[J)I" } : Jvm.MethodName)) ∈ lw_all := lw_g (lw_at lw_m10 58 rfl) rfl
theorem q2327 : (Jvm.Cond.static ({ cls := "ReorderiumLaw", name := "register", desc := "(LReorderium;I[J)I" } : Jvm.MethodName)) ∈ lw_all := lw_g (lw_at lw_m10 59 rfl) rfl
theorem q2328 : (Jvm.Cond.codeWith ({ cls := "ReorderiumLaw", name := "register", desc := "(LReorderium;I[J)I" } : Jvm.MethodName) method_17_code (4 : Nat) (Option.some Jvm.ClassFile.FieldType.int) [((0 : Nat), (9 : Nat), (12 : Nat), (13 : Nat))]) ∈ lw_all := lw_g (lw_at lw_m10 60 rfl) rfl
theorem q2329 : (Jvm.Cond.methodLink "ReorderiumLaw" (60 : Nat) ({ cls := "Reorderium", name := "register", desc := "(I)I" } : Jvm.MethodName)) ∈ lw_all := lw_g (lw_at lw_m10 61 rfl) rfl
theorem q2333 : (Jvm.Cond.methodLink "ReorderiumLaw" (201 : Nat) ({ cls := "ReorderiumLaw", name := "registerByPlain", desc := "(LReorderium;I[J)I" } : Jvm.MethodName)) ∈ lw_all := lw_g (lw_at lw_m10 65 rfl) rfl
theorem q2334 : (Jvm.Cond.static ({ cls := "ReorderiumLaw", name := "registerByPlain", desc := "(LReorderium;I[J)I" } : Jvm.MethodName)) ∈ lw_all := lw_g (lw_at lw_m10 66 rfl) rfl
theorem q2335 : (Jvm.Cond.codeWith ({ cls := "ReorderiumLaw", name := "registerByPlain", desc := "(LReorderium;I[J)I" } : Jvm.MethodName) method_18_code (4 : Nat) (Option.some Jvm.ClassFile.FieldType.int) [((0 : Nat), (9 : Nat), (12 : Nat), (13 : Nat))]) ∈ lw_all := lw_g (lw_at lw_m10 67 rfl) rfl
theorem q2336 : (Jvm.Cond.methodLink "ReorderiumLaw" (63 : Nat) ({ cls := "Reorderium", name := "registerByPlain", desc := "(I)I" } : Jvm.MethodName)) ∈ lw_all := lw_g (lw_at lw_m10 68 rfl) rfl
theorem q2340 : (Jvm.Cond.methodLink "ReorderiumLaw" (204 : Nat) ({ cls := "ReorderiumLaw", name := "word", desc := "(LReorderium;I[J)I" } : Jvm.MethodName)) ∈ lw_all := lw_g (lw_at lw_m10 72 rfl) rfl
theorem q2341 : (Jvm.Cond.static ({ cls := "ReorderiumLaw", name := "word", desc := "(LReorderium;I[J)I" } : Jvm.MethodName)) ∈ lw_all := lw_g (lw_at lw_m10 73 rfl) rfl
theorem q2342 : (Jvm.Cond.codeWith ({ cls := "ReorderiumLaw", name := "word", desc := "(LReorderium;I[J)I" } : Jvm.MethodName) method_19_code (4 : Nat) (Option.some Jvm.ClassFile.FieldType.int) [((0 : Nat), (9 : Nat), (12 : Nat), (13 : Nat))]) ∈ lw_all := lw_g (lw_at lw_m10 74 rfl) rfl
theorem q2343 : (Jvm.Cond.methodLink "ReorderiumLaw" (66 : Nat) ({ cls := "Reorderium", name := "word", desc := "(I)I" } : Jvm.MethodName)) ∈ lw_all := lw_g (lw_at lw_m10 75 rfl) rfl
theorem q2347 : (Jvm.Cond.methodLink "ReorderiumLaw" (207 : Nat) ({ cls := "ReorderiumLaw", name := "wordByPlain", desc := "(LReorderium;I[J)I" } : Jvm.MethodName)) ∈ lw_all := lw_g (lw_at lw_m10 79 rfl) rfl
theorem q2348 : (Jvm.Cond.static ({ cls := "ReorderiumLaw", name := "wordByPlain", desc := "(LReorderium;I[J)I" } : Jvm.MethodName)) ∈ lw_all := lw_g (lw_at lw_m10 80 rfl) rfl
theorem q2349 : (Jvm.Cond.codeWith ({ cls := "ReorderiumLaw", name := "wordByPlain", desc := "(LReorderium;I[J)I" } : Jvm.MethodName) method_20_code (4 : Nat) (Option.some Jvm.ClassFile.FieldType.int) [((0 : Nat), (9 : Nat), (12 : Nat), (13 : Nat))]) ∈ lw_all := lw_g (lw_at lw_m10 81 rfl) rfl
theorem q2350 : (Jvm.Cond.methodLink "ReorderiumLaw" (69 : Nat) ({ cls := "Reorderium", name := "wordByPlain", desc := "(I)I" } : Jvm.MethodName)) ∈ lw_all := lw_g (lw_at lw_m10 82 rfl) rfl
theorem q2354 : (Jvm.Cond.methodLink "ReorderiumLaw" (210 : Nat) ({ cls := "ReorderiumLaw", name := "kept", desc := "(LReorderium;[J)I" } : Jvm.MethodName)) ∈ lw_all := lw_g (lw_at lw_m10 86 rfl) rfl
theorem q2355 : (Jvm.Cond.static ({ cls := "ReorderiumLaw", name := "kept", desc := "(LReorderium;[J)I" } : Jvm.MethodName)) ∈ lw_all := lw_g (lw_at lw_m10 87 rfl) rfl
theorem q2356 : (Jvm.Cond.codeWith ({ cls := "ReorderiumLaw", name := "kept", desc := "(LReorderium;[J)I" } : Jvm.MethodName) method_21_code (3 : Nat) (Option.some Jvm.ClassFile.FieldType.int) [((0 : Nat), (8 : Nat), (11 : Nat), (76 : Nat))]) ∈ lw_all := lw_g (lw_at lw_m10 88 rfl) rfl
theorem q2357 : (Jvm.Cond.classLink "ReorderiumLaw" (76 : Nat) "java/util/NoSuchElementException") ∈ lw_all := lw_g (lw_at lw_m10 89 rfl) rfl
theorem q2358 : (Jvm.Cond.methodLink "ReorderiumLaw" (72 : Nat) ({ cls := "Reorderium", name := "kept", desc := "()I" } : Jvm.MethodName)) ∈ lw_all := lw_g (lw_at lw_m10 90 rfl) rfl
theorem q2367 : (Jvm.Cond.methodLink "ReorderiumLaw" (214 : Nat) ({ cls := "ReorderiumLaw", name := "life", desc := "(LReorderium;II[J)I" } : Jvm.MethodName)) ∈ lw_all := lw_g (lw_at lw_m10 99 rfl) rfl
theorem q2368 : (Jvm.Cond.static ({ cls := "ReorderiumLaw", name := "life", desc := "(LReorderium;II[J)I" } : Jvm.MethodName)) ∈ lw_all := lw_g (lw_at lw_m10 100 rfl) rfl
theorem q2369 : (Jvm.Cond.codeWith ({ cls := "ReorderiumLaw", name := "life", desc := "(LReorderium;II[J)I" } : Jvm.MethodName) method_22_code (5 : Nat) (Option.some Jvm.ClassFile.FieldType.int) [((0 : Nat), (10 : Nat), (13 : Nat), (49 : Nat)), ((0 : Nat), (10 : Nat), (17 : Nat), (13 : Nat)), ((0 : Nat), (10 : Nat), (21 : Nat), (76 : Nat))]) ∈ lw_all := lw_g (lw_at lw_m10 101 rfl) rfl
theorem q2370 : (Jvm.Cond.methodLink "ReorderiumLaw" (78 : Nat) ({ cls := "Reorderium", name := "life", desc := "(II)I" } : Jvm.MethodName)) ∈ lw_all := lw_g (lw_at lw_m10 102 rfl) rfl
theorem q2374 : (Jvm.Cond.methodLink "ReorderiumLaw" (217 : Nat) ({ cls := "ReorderiumLaw", name := "inner", desc := "(LReorderium;I[J)I" } : Jvm.MethodName)) ∈ lw_all := lw_g (lw_at lw_m10 106 rfl) rfl
theorem q2375 : (Jvm.Cond.static ({ cls := "ReorderiumLaw", name := "inner", desc := "(LReorderium;I[J)I" } : Jvm.MethodName)) ∈ lw_all := lw_g (lw_at lw_m10 107 rfl) rfl
theorem q2376 : (Jvm.Cond.codeWith ({ cls := "ReorderiumLaw", name := "inner", desc := "(LReorderium;I[J)I" } : Jvm.MethodName) method_23_code (4 : Nat) (Option.some Jvm.ClassFile.FieldType.int) [((0 : Nat), (9 : Nat), (12 : Nat), (13 : Nat))]) ∈ lw_all := lw_g (lw_at lw_m10 108 rfl) rfl
theorem q2377 : (Jvm.Cond.methodLink "ReorderiumLaw" (81 : Nat) ({ cls := "Reorderium", name := "inner", desc := "(I)I" } : Jvm.MethodName)) ∈ lw_all := lw_g (lw_at lw_m10 109 rfl) rfl
theorem q2381 : (Jvm.Cond.methodLink "ReorderiumLaw" (220 : Nat) ({ cls := "ReorderiumLaw", name := "innerAnew", desc := "(LReorderium;I[J)I" } : Jvm.MethodName)) ∈ lw_all := lw_g (lw_at lw_m10 113 rfl) rfl
theorem q2382 : (Jvm.Cond.static ({ cls := "ReorderiumLaw", name := "innerAnew", desc := "(LReorderium;I[J)I" } : Jvm.MethodName)) ∈ lw_all := lw_g (lw_at lw_m10 114 rfl) rfl
theorem q2383 : (Jvm.Cond.codeWith ({ cls := "ReorderiumLaw", name := "innerAnew", desc := "(LReorderium;I[J)I" } : Jvm.MethodName) method_24_code (4 : Nat) (Option.some Jvm.ClassFile.FieldType.int) [((0 : Nat), (9 : Nat), (12 : Nat), (13 : Nat))]) ∈ lw_all := lw_g (lw_at lw_m10 115 rfl) rfl
theorem q2384 : (Jvm.Cond.methodLink "ReorderiumLaw" (84 : Nat) ({ cls := "Reorderium", name := "innerAnew", desc := "(I)I" } : Jvm.MethodName)) ∈ lw_all := lw_g (lw_at lw_m10 116 rfl) rfl
theorem q2388 : (Jvm.Cond.methodLink "ReorderiumLaw" (223 : Nat) ({ cls := "ReorderiumLaw", name := "stateOf", desc := "(LReorderium;I[J)I" } : Jvm.MethodName)) ∈ lw_all := lw_g (lw_at lw_m10 120 rfl) rfl
theorem q2389 : (Jvm.Cond.static ({ cls := "ReorderiumLaw", name := "stateOf", desc := "(LReorderium;I[J)I" } : Jvm.MethodName)) ∈ lw_all := lw_g (lw_at lw_m10 121 rfl) rfl
theorem q2390 : (Jvm.Cond.codeWith ({ cls := "ReorderiumLaw", name := "stateOf", desc := "(LReorderium;I[J)I" } : Jvm.MethodName) method_25_code (4 : Nat) (Option.some Jvm.ClassFile.FieldType.int) [((0 : Nat), (9 : Nat), (12 : Nat), (49 : Nat))]) ∈ lw_all := lw_g (lw_at lw_m10 122 rfl) rfl
theorem q2391 : (Jvm.Cond.methodLink "ReorderiumLaw" (87 : Nat) ({ cls := "Reorderium", name := "stateOf", desc := "(I)C" } : Jvm.MethodName)) ∈ lw_all := lw_g (lw_at lw_m10 123 rfl) rfl
theorem q2429 : (Jvm.Cond.methodLink "ReorderiumLaw" (226 : Nat) ({ cls := "ReorderiumLaw", name := "isReady", desc := "(LReorderium;I[J)I" } : Jvm.MethodName)) ∈ lw_all := lw_g (lw_at lw_m10 161 rfl) rfl
theorem q2430 : (Jvm.Cond.static ({ cls := "ReorderiumLaw", name := "isReady", desc := "(LReorderium;I[J)I" } : Jvm.MethodName)) ∈ lw_all := lw_g (lw_at lw_m10 162 rfl) rfl
theorem q2431 : (Jvm.Cond.codeWith ({ cls := "ReorderiumLaw", name := "isReady", desc := "(LReorderium;I[J)I" } : Jvm.MethodName) method_26_code (4 : Nat) (Option.some Jvm.ClassFile.FieldType.int) [((0 : Nat), (16 : Nat), (19 : Nat), (49 : Nat))]) ∈ lw_all := lw_g (lw_at lw_m10 163 rfl) rfl
theorem q2432 : (Jvm.Cond.methodLink "ReorderiumLaw" (91 : Nat) ({ cls := "Reorderium", name := "isReady", desc := "(I)Z" } : Jvm.MethodName)) ∈ lw_all := lw_g (lw_at lw_m10 164 rfl) rfl
theorem q2436 : (Jvm.Cond.methodLink "ReorderiumLaw" (233 : Nat) ({ cls := "ReorderiumLaw", name := "freeAt", desc := "(LReorderium;I[J)I" } : Jvm.MethodName)) ∈ lw_all := lw_g (lw_at lw_m10 168 rfl) rfl
theorem q2437 : (Jvm.Cond.static ({ cls := "ReorderiumLaw", name := "freeAt", desc := "(LReorderium;I[J)I" } : Jvm.MethodName)) ∈ lw_all := lw_g (lw_at lw_m10 169 rfl) rfl
theorem q2438 : (Jvm.Cond.codeWith ({ cls := "ReorderiumLaw", name := "freeAt", desc := "(LReorderium;I[J)I" } : Jvm.MethodName) method_27_code (4 : Nat) (Option.some Jvm.ClassFile.FieldType.int) [((0 : Nat), (9 : Nat), (12 : Nat), (49 : Nat))]) ∈ lw_all := lw_g (lw_at lw_m10 170 rfl) rfl
theorem q2439 : (Jvm.Cond.methodLink "ReorderiumLaw" (95 : Nat) ({ cls := "Reorderium", name := "freeAt", desc := "(I)I" } : Jvm.MethodName)) ∈ lw_all := lw_g (lw_at lw_m10 171 rfl) rfl
theorem q2443 : (Jvm.Cond.methodLink "ReorderiumLaw" (240 : Nat) ({ cls := "ReorderiumLaw", name := "bufferAt", desc := "(LReorderium;I[J)I" } : Jvm.MethodName)) ∈ lw_all := lw_g (lw_at lw_m10 175 rfl) rfl
theorem q2444 : (Jvm.Cond.static ({ cls := "ReorderiumLaw", name := "bufferAt", desc := "(LReorderium;I[J)I" } : Jvm.MethodName)) ∈ lw_all := lw_g (lw_at lw_m10 176 rfl) rfl
theorem q2445 : (Jvm.Cond.codeWith ({ cls := "ReorderiumLaw", name := "bufferAt", desc := "(LReorderium;I[J)I" } : Jvm.MethodName) method_28_code (4 : Nat) (Option.some Jvm.ClassFile.FieldType.int) [((0 : Nat), (9 : Nat), (12 : Nat), (49 : Nat))]) ∈ lw_all := lw_g (lw_at lw_m10 177 rfl) rfl
theorem q2446 : (Jvm.Cond.methodLink "ReorderiumLaw" (98 : Nat) ({ cls := "Reorderium", name := "bufferAt", desc := "(I)I" } : Jvm.MethodName)) ∈ lw_all := lw_g (lw_at lw_m10 178 rfl) rfl
theorem q2455 : (Jvm.Cond.methodLink "ReorderiumLaw" (243 : Nat) ({ cls := "ReorderiumLaw", name := "stageAt", desc := "(LReorderium;I[J)I" } : Jvm.MethodName)) ∈ lw_all := lw_g (lw_at lw_m10 187 rfl) rfl
theorem q2456 : (Jvm.Cond.static ({ cls := "ReorderiumLaw", name := "stageAt", desc := "(LReorderium;I[J)I" } : Jvm.MethodName)) ∈ lw_all := lw_g (lw_at lw_m10 188 rfl) rfl
theorem q2457 : (Jvm.Cond.codeWith ({ cls := "ReorderiumLaw", name := "stageAt", desc := "(LReorderium;I[J)I" } : Jvm.MethodName) method_29_code (4 : Nat) (Option.some Jvm.ClassFile.FieldType.int) [((0 : Nat), (9 : Nat), (12 : Nat), (49 : Nat))]) ∈ lw_all := lw_g (lw_at lw_m10 189 rfl) rfl
theorem q2458 : (Jvm.Cond.methodLink "ReorderiumLaw" (101 : Nat) ({ cls := "Reorderium", name := "stageAt", desc := "(I)C" } : Jvm.MethodName)) ∈ lw_all := lw_g (lw_at lw_m10 190 rfl) rfl
theorem q2462 : (Jvm.Cond.methodLink "ReorderiumLaw" (254 : Nat) ({ cls := "ReorderiumLaw", name := "fetching", desc := "(LReorderium;[J)I" } : Jvm.MethodName)) ∈ lw_all := lw_g (lw_at lw_m10 194 rfl) rfl
theorem q2463 : (Jvm.Cond.static ({ cls := "ReorderiumLaw", name := "fetching", desc := "(LReorderium;[J)I" } : Jvm.MethodName)) ∈ lw_all := lw_g (lw_at lw_m10 195 rfl) rfl
theorem q2464 : (Jvm.Cond.codeWith ({ cls := "ReorderiumLaw", name := "fetching", desc := "(LReorderium;[J)I" } : Jvm.MethodName) method_30_code (3 : Nat) (Option.some Jvm.ClassFile.FieldType.int) [((0 : Nat), (8 : Nat), (11 : Nat), (76 : Nat))]) ∈ lw_all := lw_g (lw_at lw_m10 196 rfl) rfl
theorem q2465 : (Jvm.Cond.methodLink "ReorderiumLaw" (104 : Nat) ({ cls := "Reorderium", name := "fetching", desc := "()I" } : Jvm.MethodName)) ∈ lw_all := lw_g (lw_at lw_m10 197 rfl) rfl
theorem q2469 : (Jvm.Cond.methodLink "ReorderiumLaw" (261 : Nat) ({ cls := "ReorderiumLaw", name := "returnAt", desc := "(LReorderium;I[J)I" } : Jvm.MethodName)) ∈ lw_all := lw_g (lw_at lw_m10 201 rfl) rfl
theorem q2470 : (Jvm.Cond.static ({ cls := "ReorderiumLaw", name := "returnAt", desc := "(LReorderium;I[J)I" } : Jvm.MethodName)) ∈ lw_all := lw_g (lw_at lw_m10 202 rfl) rfl
theorem q2471 : (Jvm.Cond.codeWith ({ cls := "ReorderiumLaw", name := "returnAt", desc := "(LReorderium;I[J)I" } : Jvm.MethodName) method_31_code (4 : Nat) (Option.some Jvm.ClassFile.FieldType.int) [((0 : Nat), (9 : Nat), (12 : Nat), (49 : Nat))]) ∈ lw_all := lw_g (lw_at lw_m10 203 rfl) rfl
theorem q2472 : (Jvm.Cond.methodLink "ReorderiumLaw" (107 : Nat) ({ cls := "Reorderium", name := "returnAt", desc := "(I)I" } : Jvm.MethodName)) ∈ lw_all := lw_g (lw_at lw_m10 204 rfl) rfl
theorem q2476 : (Jvm.Cond.methodLink "ReorderiumLaw" (264 : Nat) ({ cls := "ReorderiumLaw", name := "counter", desc := "(LReorderium;I[J)I" } : Jvm.MethodName)) ∈ lw_all := lw_g (lw_at lw_m10 208 rfl) rfl
theorem q2477 : (Jvm.Cond.static ({ cls := "ReorderiumLaw", name := "counter", desc := "(LReorderium;I[J)I" } : Jvm.MethodName)) ∈ lw_all := lw_g (lw_at lw_m10 209 rfl) rfl
theorem q2478 : (Jvm.Cond.codeWith ({ cls := "ReorderiumLaw", name := "counter", desc := "(LReorderium;I[J)I" } : Jvm.MethodName) method_32_code (4 : Nat) (Option.some Jvm.ClassFile.FieldType.int) [((0 : Nat), (9 : Nat), (12 : Nat), (13 : Nat))]) ∈ lw_all := lw_g (lw_at lw_m10 210 rfl) rfl
theorem q2479 : (Jvm.Cond.methodLink "ReorderiumLaw" (110 : Nat) ({ cls := "Reorderium", name := "counter", desc := "(I)I" } : Jvm.MethodName)) ∈ lw_all := lw_g (lw_at lw_m10 211 rfl) rfl
theorem q2483 : (Jvm.Cond.methodLink "ReorderiumLaw" (267 : Nat) ({ cls := "ReorderiumLaw", name := "isMarked", desc := "(LReorderium;I[J)I" } : Jvm.MethodName)) ∈ lw_all := lw_g (lw_at lw_m10 215 rfl) rfl
theorem q2484 : (Jvm.Cond.static ({ cls := "ReorderiumLaw", name := "isMarked", desc := "(LReorderium;I[J)I" } : Jvm.MethodName)) ∈ lw_all := lw_g (lw_at lw_m10 216 rfl) rfl
theorem q2485 : (Jvm.Cond.codeWith ({ cls := "ReorderiumLaw", name := "isMarked", desc := "(LReorderium;I[J)I" } : Jvm.MethodName) method_33_code (4 : Nat) (Option.some Jvm.ClassFile.FieldType.int) [((0 : Nat), (16 : Nat), (19 : Nat), (13 : Nat))]) ∈ lw_all := lw_g (lw_at lw_m10 217 rfl) rfl
theorem q2486 : (Jvm.Cond.methodLink "ReorderiumLaw" (113 : Nat) ({ cls := "Reorderium", name := "isMarked", desc := "(I)Z" } : Jvm.MethodName)) ∈ lw_all := lw_g (lw_at lw_m10 218 rfl) rfl
theorem q2490 : (Jvm.Cond.methodLink "ReorderiumLaw" (270 : Nat) ({ cls := "ReorderiumLaw", name := "lineAt", desc := "(LReorderium;I[J)I" } : Jvm.MethodName)) ∈ lw_all := lw_g (lw_at lw_m10 222 rfl) rfl
theorem q2491 : (Jvm.Cond.static ({ cls := "ReorderiumLaw", name := "lineAt", desc := "(LReorderium;I[J)I" } : Jvm.MethodName)) ∈ lw_all := lw_g (lw_at lw_m10 223 rfl) rfl
theorem q2492 : (Jvm.Cond.codeWith ({ cls := "ReorderiumLaw", name := "lineAt", desc := "(LReorderium;I[J)I" } : Jvm.MethodName) method_34_code (4 : Nat) (Option.some Jvm.ClassFile.FieldType.int) [((0 : Nat), (9 : Nat), (12 : Nat), (13 : Nat))]) ∈ lw_all := lw_g (lw_at lw_m10 224 rfl) rfl
theorem q2493 : (Jvm.Cond.methodLink "ReorderiumLaw" (116 : Nat) ({ cls := "Reorderium", name := "lineAt", desc := "(I)I" } : Jvm.MethodName)) ∈ lw_all := lw_g (lw_at lw_m10 225 rfl) rfl
theorem q2497 : (Jvm.Cond.methodLink "ReorderiumLaw" (277 : Nat) ({ cls := "ReorderiumLaw", name := "lost", desc := "(LReorderium;C[J)I" } : Jvm.MethodName)) ∈ lw_all := lw_g (lw_at lw_m10 229 rfl) rfl
theorem q2498 : (Jvm.Cond.static ({ cls := "ReorderiumLaw", name := "lost", desc := "(LReorderium;C[J)I" } : Jvm.MethodName)) ∈ lw_all := lw_g (lw_at lw_m10 230 rfl) rfl
theorem q2499 : (Jvm.Cond.codeWith ({ cls := "ReorderiumLaw", name := "lost", desc := "(LReorderium;C[J)I" } : Jvm.MethodName) method_35_code (4 : Nat) (Option.some Jvm.ClassFile.FieldType.int) [((0 : Nat), (9 : Nat), (12 : Nat), (13 : Nat))]) ∈ lw_all := lw_g (lw_at lw_m10 231 rfl) rfl
theorem q2500 : (Jvm.Cond.methodLink "ReorderiumLaw" (119 : Nat) ({ cls := "Reorderium", name := "lost", desc := "(C)I" } : Jvm.MethodName)) ∈ lw_all := lw_g (lw_at lw_m10 232 rfl) rfl
theorem q2504 : (Jvm.Cond.methodLink "ReorderiumLaw" (302 : Nat) ({ cls := "ReorderiumLaw", name := "share", desc := "(LReorderium;[D)I" } : Jvm.MethodName)) ∈ lw_all := lw_g (lw_at lw_m10 236 rfl) rfl
theorem q2505 : (Jvm.Cond.static ({ cls := "ReorderiumLaw", name := "share", desc := "(LReorderium;[D)I" } : Jvm.MethodName)) ∈ lw_all := lw_g (lw_at lw_m10 237 rfl) rfl
theorem q2506 : (Jvm.Cond.codeWith ({ cls := "ReorderiumLaw", name := "share", desc := "(LReorderium;[D)I" } : Jvm.MethodName) method_36_code (3 : Nat) (Option.some Jvm.ClassFile.FieldType.int) [((0 : Nat), (8 : Nat), (11 : Nat), (76 : Nat))]) ∈ lw_all := lw_g (lw_at lw_m10 238 rfl) rfl
theorem q2507 : (Jvm.Cond.methodLink "ReorderiumLaw" (123 : Nat) ({ cls := "Reorderium", name := "share", desc := "()F" } : Jvm.MethodName)) ∈ lw_all := lw_g (lw_at lw_m10 239 rfl) rfl
theorem q2511 : (Jvm.Cond.classLink "ReorderiumLaw" (128 : Nat) "ReorderiumModel") ∈ lw_all := lw_g (lw_at lw_m11 3 rfl) rfl
theorem q2513 : (Jvm.Cond.methodLink "ReorderiumLaw" (130 : Nat) ({ cls := "ReorderiumModel", name := "<init>", desc := "()V" } : Jvm.MethodName)) ∈ lw_all := lw_g (lw_at lw_m11 5 rfl) rfl
theorem q2709 : (Jvm.Cond.methodLink "ReorderiumLaw" (137 : Nat) ({ cls := "ReorderiumModel", name := "thrown", desc := "()I" } : Jvm.MethodName)) ∈ lw_all := lw_g (lw_at lw_m11 201 rfl) rfl
theorem q2713 : (Jvm.Cond.methodLink "ReorderiumLaw" (136 : Nat) ({ cls := "ReorderiumModel", name := "add", desc := "(IIIII)I" } : Jvm.MethodName)) ∈ lw_all := lw_g (lw_at lw_m11 205 rfl) rfl
theorem q2720 : (Jvm.Cond.methodLink "ReorderiumLaw" (143 : Nat) ({ cls := "ReorderiumModel", name := "setRegister", desc := "(II)I" } : Jvm.MethodName)) ∈ lw_all := lw_g (lw_at lw_m11 212 rfl) rfl
theorem q2728 : (Jvm.Cond.methodLink "ReorderiumLaw" (146 : Nat) ({ cls := "ReorderiumModel", name := "setWord", desc := "(II)I" } : Jvm.MethodName)) ∈ lw_all := lw_g (lw_at lw_m11 220 rfl) rfl
theorem q2732 : (Jvm.Cond.methodLink "ReorderiumLaw" (150 : Nat) ({ cls := "ReorderiumModel", name := "setWidth", desc := "(I)I" } : Jvm.MethodName)) ∈ lw_all := lw_g (lw_at lw_m11 224 rfl) rfl
theorem q2736 : (Jvm.Cond.methodLink "ReorderiumLaw" (153 : Nat) ({ cls := "ReorderiumModel", name := "setBuffer", desc := "(I)I" } : Jvm.MethodName)) ∈ lw_all := lw_g (lw_at lw_m11 228 rfl) rfl
theorem q2740 : (Jvm.Cond.methodLink "ReorderiumLaw" (156 : Nat) ({ cls := "ReorderiumModel", name := "setQueue", desc := "(I)I" } : Jvm.MethodName)) ∈ lw_all := lw_g (lw_at lw_m11 232 rfl) rfl
theorem q2744 : (Jvm.Cond.methodLink "ReorderiumLaw" (159 : Nat) ({ cls := "ReorderiumModel", name := "setInner", desc := "(I)I" } : Jvm.MethodName)) ∈ lw_all := lw_g (lw_at lw_m11 236 rfl) rfl
theorem q2748 : (Jvm.Cond.methodLink "ReorderiumLaw" (162 : Nat) ({ cls := "ReorderiumModel", name := "setHandlers", desc := "(II)I" } : Jvm.MethodName)) ∈ lw_all := lw_g (lw_at lw_m12 0 rfl) rfl
theorem q2752 : (Jvm.Cond.methodLink "ReorderiumLaw" (165 : Nat) ({ cls := "ReorderiumModel", name := "setTime", desc := "(II)I" } : Jvm.MethodName)) ∈ lw_all := lw_g (lw_at lw_m12 4 rfl) rfl
theorem q2756 : (Jvm.Cond.methodLink "ReorderiumLaw" (170 : Nat) ({ cls := "ReorderiumModel", name := "interrupt", desc := "()Z" } : Jvm.MethodName)) ∈ lw_all := lw_g (lw_at lw_m12 8 rfl) rfl
theorem q2760 : (Jvm.Cond.methodLink "ReorderiumLaw" (173 : Nat) ({ cls := "ReorderiumModel", name := "run", desc := "(I)I" } : Jvm.MethodName)) ∈ lw_all := lw_g (lw_at lw_m12 12 rfl) rfl
theorem q2906 : (Jvm.Cond.methodLink "ReorderiumLaw" (177 : Nat) ({ cls := "ReorderiumModel", name := "cycle", desc := "()I" } : Jvm.MethodName)) ∈ lw_all := lw_g (lw_at lw_m12 158 rfl) rfl
theorem q2910 : (Jvm.Cond.methodLink "ReorderiumLaw" (181 : Nat) ({ cls := "ReorderiumModel", name := "hasStopped", desc := "()Z" } : Jvm.MethodName)) ∈ lw_all := lw_g (lw_at lw_m12 162 rfl) rfl
theorem q2914 : (Jvm.Cond.methodLink "ReorderiumLaw" (185 : Nat) ({ cls := "ReorderiumModel", name := "ends", desc := "()I" } : Jvm.MethodName)) ∈ lw_all := lw_g (lw_at lw_m12 166 rfl) rfl
theorem q2918 : (Jvm.Cond.methodLink "ReorderiumLaw" (188 : Nat) ({ cls := "ReorderiumModel", name := "kindAt", desc := "(I)I" } : Jvm.MethodName)) ∈ lw_all := lw_g (lw_at lw_m12 170 rfl) rfl
theorem q2926 : (Jvm.Cond.methodLink "ReorderiumLaw" (191 : Nat) ({ cls := "ReorderiumModel", name := "placeAt", desc := "(I)I" } : Jvm.MethodName)) ∈ lw_all := lw_g (lw_at lw_m12 178 rfl) rfl
theorem q2930 : (Jvm.Cond.methodLink "ReorderiumLaw" (194 : Nat) ({ cls := "ReorderiumModel", name := "kindByPlain", desc := "(I)I" } : Jvm.MethodName)) ∈ lw_all := lw_g (lw_at lw_m12 182 rfl) rfl
theorem q2950 : (Jvm.Cond.methodLink "ReorderiumLaw" (197 : Nat) ({ cls := "ReorderiumModel", name := "placeByPlain", desc := "(I)I" } : Jvm.MethodName)) ∈ lw_all := lw_g (lw_at lw_m12 202 rfl) rfl
theorem q2954 : (Jvm.Cond.methodLink "ReorderiumLaw" (200 : Nat) ({ cls := "ReorderiumModel", name := "register", desc := "(I)I" } : Jvm.MethodName)) ∈ lw_all := lw_g (lw_at lw_m12 206 rfl) rfl
theorem q2958 : (Jvm.Cond.methodLink "ReorderiumLaw" (203 : Nat) ({ cls := "ReorderiumModel", name := "registerByPlain", desc := "(I)I" } : Jvm.MethodName)) ∈ lw_all := lw_g (lw_at lw_m12 210 rfl) rfl
theorem q2962 : (Jvm.Cond.methodLink "ReorderiumLaw" (206 : Nat) ({ cls := "ReorderiumModel", name := "word", desc := "(I)I" } : Jvm.MethodName)) ∈ lw_all := lw_g (lw_at lw_m12 214 rfl) rfl
theorem q2966 : (Jvm.Cond.methodLink "ReorderiumLaw" (209 : Nat) ({ cls := "ReorderiumModel", name := "wordByPlain", desc := "(I)I" } : Jvm.MethodName)) ∈ lw_all := lw_g (lw_at lw_m12 218 rfl) rfl
theorem q2970 : (Jvm.Cond.methodLink "ReorderiumLaw" (213 : Nat) ({ cls := "ReorderiumModel", name := "kept", desc := "()I" } : Jvm.MethodName)) ∈ lw_all := lw_g (lw_at lw_m12 222 rfl) rfl
theorem q2974 : (Jvm.Cond.methodLink "ReorderiumLaw" (216 : Nat) ({ cls := "ReorderiumModel", name := "life", desc := "(II)I" } : Jvm.MethodName)) ∈ lw_all := lw_g (lw_at lw_m12 226 rfl) rfl
theorem q2982 : (Jvm.Cond.methodLink "ReorderiumLaw" (219 : Nat) ({ cls := "ReorderiumModel", name := "inner", desc := "(I)I" } : Jvm.MethodName)) ∈ lw_all := lw_g (lw_at lw_m12 234 rfl) rfl
theorem q2986 : (Jvm.Cond.methodLink "ReorderiumLaw" (222 : Nat) ({ cls := "ReorderiumModel", name := "innerAnew", desc := "(I)I" } : Jvm.MethodName)) ∈ lw_all := lw_g (lw_at lw_m12 238 rfl) rfl
theorem q2991 : (Jvm.Cond.methodLink "ReorderiumLaw" (225 : Nat) ({ cls := "ReorderiumModel", name := "stateOf", desc := "(I)C" } : Jvm.MethodName)) ∈ lw_all := lw_g (lw_at lw_m13 3 rfl) rfl
theorem q2999 : (Jvm.Cond.methodLink "ReorderiumLaw" (228 : Nat) ({ cls := "ReorderiumModel", name := "isReady", desc := "(I)Z" } : Jvm.MethodName)) ∈ lw_all := lw_g (lw_at lw_m13 11 rfl) rfl
theorem q3003 : (Jvm.Cond.methodLink "ReorderiumLaw" (232 : Nat) ({ cls := "ReorderiumModel", name := "free", desc := "()I" } : Jvm.MethodName)) ∈ lw_all := lw_g (lw_at lw_m13 15 rfl) rfl
theorem q3007 : (Jvm.Cond.methodLink "ReorderiumLaw" (235 : Nat) ({ cls := "ReorderiumModel", name := "freeAt", desc := "(I)I" } : Jvm.MethodName)) ∈ lw_all := lw_g (lw_at lw_m13 19 rfl) rfl
theorem q3011 : (Jvm.Cond.methodLink "ReorderiumLaw" (239 : Nat) ({ cls := "ReorderiumModel", name := "inBuffer", desc := "()I" } : Jvm.MethodName)) ∈ lw_all := lw_g (lw_at lw_m13 23 rfl) rfl
theorem q3015 : (Jvm.Cond.methodLink "ReorderiumLaw" (242 : Nat) ({ cls := "ReorderiumModel", name := "bufferAt", desc := "(I)I" } : Jvm.MethodName)) ∈ lw_all := lw_g (lw_at lw_m13 27 rfl) rfl
theorem q3019 : (Jvm.Cond.methodLink "ReorderiumLaw" (245 : Nat) ({ cls := "ReorderiumModel", name := "stageAt", desc := "(I)C" } : Jvm.MethodName)) ∈ lw_all := lw_g (lw_at lw_m13 31 rfl) rfl
theorem q3023 : (Jvm.Cond.methodLink "ReorderiumLaw" (249 : Nat) ({ cls := "ReorderiumModel", name := "inQueue", desc := "()I" } : Jvm.MethodName)) ∈ lw_all := lw_g (lw_at lw_m13 35 rfl) rfl
theorem q3027 : (Jvm.Cond.methodLink "ReorderiumLaw" (253 : Nat) ({ cls := "ReorderiumModel", name := "fetched", desc := "()I" } : Jvm.MethodName)) ∈ lw_all := lw_g (lw_at lw_m13 39 rfl) rfl
theorem q3031 : (Jvm.Cond.methodLink "ReorderiumLaw" (256 : Nat) ({ cls := "ReorderiumModel", name := "fetching", desc := "()I" } : Jvm.MethodName)) ∈ lw_all := lw_g (lw_at lw_m13 43 rfl) rfl
theorem q3035 : (Jvm.Cond.methodLink "ReorderiumLaw" (260 : Nat) ({ cls := "ReorderiumModel", name := "returns", desc := "()I" } : Jvm.MethodName)) ∈ lw_all := lw_g (lw_at lw_m13 47 rfl) rfl
theorem q3039 : (Jvm.Cond.methodLink "ReorderiumLaw" (263 : Nat) ({ cls := "ReorderiumModel", name := "returnAt", desc := "(I)I" } : Jvm.MethodName)) ∈ lw_all := lw_g (lw_at lw_m13 51 rfl) rfl
theorem q3043 : (Jvm.Cond.methodLink "ReorderiumLaw" (266 : Nat) ({ cls := "ReorderiumModel", name := "counter", desc := "(I)I" } : Jvm.MethodName)) ∈ lw_all := lw_g (lw_at lw_m13 55 rfl) rfl
theorem q3047 : (Jvm.Cond.methodLink "ReorderiumLaw" (269 : Nat) ({ cls := "ReorderiumModel", name := "isMarked", desc := "(I)Z" } : Jvm.MethodName)) ∈ lw_all := lw_g (lw_at lw_m13 59 rfl) rfl
theorem q3051 : (Jvm.Cond.methodLink "ReorderiumLaw" (272 : Nat) ({ cls := "ReorderiumModel", name := "lineAt", desc := "(I)I" } : Jvm.MethodName)) ∈ lw_all := lw_g (lw_at lw_m13 63 rfl) rfl
theorem q3055 : (Jvm.Cond.methodLink "ReorderiumLaw" (276 : Nat) ({ cls := "ReorderiumModel", name := "asked", desc := "()I" } : Jvm.MethodName)) ∈ lw_all := lw_g (lw_at lw_m13 67 rfl) rfl
theorem q3059 : (Jvm.Cond.methodLink "ReorderiumLaw" (280 : Nat) ({ cls := "ReorderiumModel", name := "lost", desc := "(C)I" } : Jvm.MethodName)) ∈ lw_all := lw_g (lw_at lw_m13 71 rfl) rfl
theorem q3063 : (Jvm.Cond.methodLink "ReorderiumLaw" (284 : Nat) ({ cls := "ReorderiumModel", name := "wrong", desc := "()I" } : Jvm.MethodName)) ∈ lw_all := lw_g (lw_at lw_m13 75 rfl) rfl
theorem q3067 : (Jvm.Cond.methodLink "ReorderiumLaw" (288 : Nat) ({ cls := "ReorderiumModel", name := "early", desc := "()I" } : Jvm.MethodName)) ∈ lw_all := lw_g (lw_at lw_m13 79 rfl) rfl
theorem q3071 : (Jvm.Cond.methodLink "ReorderiumLaw" (292 : Nat) ({ cls := "ReorderiumModel", name := "thrownAway", desc := "()I" } : Jvm.MethodName)) ∈ lw_all := lw_g (lw_at lw_m13 83 rfl) rfl
theorem q3075 : (Jvm.Cond.methodLink "ReorderiumLaw" (296 : Nat) ({ cls := "ReorderiumModel", name := "taken", desc := "()I" } : Jvm.MethodName)) ∈ lw_all := lw_g (lw_at lw_m13 87 rfl) rfl
theorem q3079 : (Jvm.Cond.methodLink "ReorderiumLaw" (301 : Nat) ({ cls := "ReorderiumModel", name := "hits", desc := "()J" } : Jvm.MethodName)) ∈ lw_all := lw_g (lw_at lw_m13 91 rfl) rfl
theorem q3084 : (Jvm.Cond.methodLink "ReorderiumLaw" (305 : Nat) ({ cls := "ReorderiumModel", name := "share", desc := "()F" } : Jvm.MethodName)) ∈ lw_all := lw_g (lw_at lw_m13 96 rfl) rfl
theorem q3088 : (Jvm.Cond.methodLink "ReorderiumLaw" (309 : Nat) ({ cls := "ReorderiumModel", name := "isSame", desc := "()Z" } : Jvm.MethodName)) ∈ lw_all := lw_g (lw_at lw_m13 100 rfl) rfl
theorem q3092 : (Jvm.Cond.methodLink "ReorderiumLaw" (313 : Nat) ({ cls := "ReorderiumModel", name := "isWhole", desc := "()Z" } : Jvm.MethodName)) ∈ lw_all := lw_g (lw_at lw_m13 104 rfl) rfl

theorem q109 : (Jvm.Cond.initialized "Reorderium") ∈ lw_all := lw_g (lw_at lw_m1 1 rfl) rfl
theorem q158 : (Jvm.Cond.instantiable "Reorderium" (37 : Nat)) ∈ lw_all := lw_g (lw_at lw_m1 50 rfl) rfl
theorem q160 : (Jvm.Cond.instanceMethod ({ cls := "Reorderium", name := "<init>", desc := "()V" } : Jvm.MethodName)) ∈ lw_all := lw_g (lw_at lw_m1 52 rfl) rfl
theorem q161 : (Jvm.Cond.code ({ cls := "Reorderium", name := "<init>", desc := "()V" } : Jvm.MethodName) prog_1_method_4_code (2 : Nat) (Option.none : Option Jvm.ClassFile.FieldType)) ∈ lw_all := lw_g (lw_at lw_m1 53 rfl) rfl
theorem q162 : (Jvm.Cond.methodLink "Reorderium" (7 : Nat) ({ cls := "java/lang/Object", name := "<init>", desc := "()V" } : Jvm.MethodName)) ∈ lw_all := lw_g (lw_at lw_m1 54 rfl) rfl
theorem q165 : (Jvm.Cond.classLink "Reorderium" (13 : Nat) "java/util/ArrayList") ∈ lw_all := lw_g (lw_at lw_m1 57 rfl) rfl
theorem q167 : (Jvm.Cond.methodLink "Reorderium" (15 : Nat) ({ cls := "java/util/ArrayList", name := "<init>", desc := "()V" } : Jvm.MethodName)) ∈ lw_all := lw_g (lw_at lw_m1 59 rfl) rfl
theorem q198 : (Jvm.Cond.classLink "Reorderium" (30 : Nat) "Reorderium$Handling") ∈ lw_all := lw_g (lw_at lw_m1 90 rfl) rfl
theorem q200 : (Jvm.Cond.methodLinkNest "Reorderium" (32 : Nat) ({ cls := "Reorderium$Handling", name := "<init>", desc := "()V" } : Jvm.MethodName) "Reorderium") ∈ lw_tbl := lw_at lw_m1 92 rfl
theorem q205 : (Jvm.Cond.fieldLinkNest "Reorderium" (587 : Nat) "Reorderium$Handling" "forTraps" "I" "Reorderium") ∈ lw_tbl := lw_at lw_m1 97 rfl
theorem q207 : (Jvm.Cond.fieldLinkNest "Reorderium" (372 : Nat) "Reorderium$Handling" "forInterrupts" "I" "Reorderium") ∈ lw_tbl := lw_at lw_m1 99 rfl
theorem q210 : (Jvm.Cond.fieldLinkNest "Reorderium" (356 : Nat) "Reorderium$Handling" "isUnderWay" "Z" "Reorderium") ∈ lw_tbl := lw_at lw_m1 102 rfl
theorem q212 : (Jvm.Cond.fieldLinkNest "Reorderium" (638 : Nat) "Reorderium$Handling" "kept" "I" "Reorderium") ∈ lw_tbl := lw_at lw_m1 104 rfl
theorem q223 : (Jvm.Cond.classLink "Reorderium" (53 : Nat) "java/util/BitSet") ∈ lw_all := lw_g (lw_at lw_m1 115 rfl) rfl
theorem q225 : (Jvm.Cond.methodLink "Reorderium" (55 : Nat) ({ cls := "java/util/BitSet", name := "<init>", desc := "()V" } : Jvm.MethodName)) ∈ lw_all := lw_g (lw_at lw_m1 117 rfl) rfl
theorem q247 : (Jvm.Cond.classLink "Reorderium" (66 : Nat) "java/util/ArrayDeque") ∈ lw_all := lw_g (lw_at lw_m1 139 rfl) rfl
theorem q249 : (Jvm.Cond.methodLink "Reorderium" (68 : Nat) ({ cls := "java/util/ArrayDeque", name := "<init>", desc := "()V" } : Jvm.MethodName)) ∈ lw_all := lw_g (lw_at lw_m1 141 rfl) rfl
theorem q267 : (Jvm.Cond.classLink "Reorderium" (76 : Nat) "java/util/LinkedList") ∈ lw_all := lw_g (lw_at lw_m1 159 rfl) rfl
theorem q269 : (Jvm.Cond.methodLink "Reorderium" (78 : Nat) ({ cls := "java/util/LinkedList", name := "<init>", desc := "()V" } : Jvm.MethodName)) ∈ lw_all := lw_g (lw_at lw_m1 161 rfl) rfl
theorem q289 : (Jvm.Cond.stringRef "Reorderium" (110 : Nat) "itfqxmbd") ∈ lw_tbl := lw_at lw_m1 181 rfl
theorem q290 : (Jvm.Cond.methodLink "Reorderium" (112 : Nat) ({ cls := "java/lang/String", name := "length", desc := "()I" } : Jvm.MethodName)) ∈ lw_all := lw_g (lw_at lw_m1 182 rfl) rfl
theorem q300 : (Jvm.Cond.methodLink "Reorderium" (121 : Nat) ({ cls := "java/util/BitSet", name := "set", desc := "(I)V" } : Jvm.MethodName)) ∈ lw_all := lw_g (lw_at lw_m1 192 rfl) rfl
theorem q646 : (Jvm.Cond.methodLink "Reorderium" (125 : Nat) ({ cls := "Reorderium", name := "freeFrom", desc := "()V" } : Jvm.MethodName)) ∈ lw_all := lw_g (lw_at lw_m3 58 rfl) rfl
theorem q647 : (Jvm.Cond.privateMethod ({ cls := "Reorderium", name := "freeFrom", desc := "()V" } : Jvm.MethodName)) ∈ lw_tbl := lw_at lw_m3 59 rfl
theorem q648 : (Jvm.Cond.instanceMethod ({ cls := "Reorderium", name := "freeFrom", desc := "()V" } : Jvm.MethodName)) ∈ lw_all := lw_g (lw_at lw_m3 60 rfl) rfl
theorem q649 : (Jvm.Cond.code ({ cls := "Reorderium", name := "freeFrom", desc := "()V" } : Jvm.MethodName) prog_1_method_5_code (2 : Nat) (Option.none : Option Jvm.ClassFile.FieldType)) ∈ lw_all := lw_g (lw_at lw_m3 61 rfl) rfl
theorem q650 : (Jvm.Cond.methodLink "Reorderium" (128 : Nat) ({ cls := "java/util/ArrayDeque", name := "clear", desc := "()V" } : Jvm.MethodName)) ∈ lw_all := lw_g (lw_at lw_m3 62 rfl) rfl
theorem q657 : (Jvm.Cond.methodLink "Reorderium" (131 : Nat) ({ cls := "java/lang/Integer", name := "valueOf", desc := "(I)Ljava/lang/Integer;" } : Jvm.MethodName)) ∈ lw_all := lw_g (lw_at lw_m3 69 rfl) rfl
theorem q677 : (Jvm.Cond.methodLink "Reorderium" (137 : Nat) ({ cls := "java/util/ArrayDeque", name := "addLast", desc := "(Ljava/lang/Object;)V" } : Jvm.MethodName)) ∈ lw_all := lw_g (lw_at lw_m3 89 rfl) rfl
theorem q716 : (Jvm.Cond.selects "Reorderium" ({ cls := "java/lang/Object", name := "getClass", desc := "()Ljava/lang/Class;" } : Jvm.MethodName) ({ cls := "java/lang/Object", name := "getClass", desc := "()Ljava/lang/Class;" } : Jvm.MethodName)) ∈ lw_all := lw_g (lw_at lw_m3 128 rfl) rfl
theorem q752 : (Jvm.Cond.fieldLink "Reorderium" (16 : Nat) "Reorderium" "program" "Ljava/util/List;") ∈ lw_all := lw_g (lw_at lw_m3 164 rfl) rfl
theorem q753 : (Jvm.Cond.fieldLink "Reorderium" (20 : Nat) "Reorderium" "firstRegisters" "[I") ∈ lw_all := lw_g (lw_at lw_m3 165 rfl) rfl
theorem q754 : (Jvm.Cond.fieldLink "Reorderium" (24 : Nat) "Reorderium" "firstWords" "[I") ∈ lw_all := lw_g (lw_at lw_m3 166 rfl) rfl
theorem q755 : (Jvm.Cond.fieldLink "Reorderium" (27 : Nat) "Reorderium" "words" "[I") ∈ lw_all := lw_g (lw_at lw_m3 167 rfl) rfl
theorem q756 : (Jvm.Cond.fieldLink "Reorderium" (33 : Nat) "Reorderium" "handling" "LReorderium$Handling;") ∈ lw_all := lw_g (lw_at lw_m3 168 rfl) rfl
theorem q757 : (Jvm.Cond.fieldLink "Reorderium" (37 : Nat) "Reorderium" "width" "I") ∈ lw_all := lw_g (lw_at lw_m3 169 rfl) rfl
theorem q758 : (Jvm.Cond.fieldLink "Reorderium" (41 : Nat) "Reorderium" "bufferSize" "I") ∈ lw_all := lw_g (lw_at lw_m3 170 rfl) rfl
theorem q759 : (Jvm.Cond.fieldLink "Reorderium" (44 : Nat) "Reorderium" "queueSize" "I") ∈ lw_all := lw_g (lw_at lw_m3 171 rfl) rfl
theorem q760 : (Jvm.Cond.fieldLink "Reorderium" (47 : Nat) "Reorderium" "innerMany" "I") ∈ lw_all := lw_g (lw_at lw_m3 172 rfl) rfl
theorem q761 : (Jvm.Cond.fieldLink "Reorderium" (50 : Nat) "Reorderium" "values" "[I") ∈ lw_all := lw_g (lw_at lw_m3 173 rfl) rfl
theorem q762 : (Jvm.Cond.fieldLink "Reorderium" (56 : Nat) "Reorderium" "ready" "Ljava/util/BitSet;") ∈ lw_all := lw_g (lw_at lw_m3 174 rfl) rfl
theorem q763 : (Jvm.Cond.fieldLink "Reorderium" (60 : Nat) "Reorderium" "map" "[I") ∈ lw_all := lw_g (lw_at lw_m3 175 rfl) rfl
theorem q764 : (Jvm.Cond.fieldLink "Reorderium" (63 : Nat) "Reorderium" "retiredMap" "[I") ∈ lw_all := lw_g (lw_at lw_m3 176 rfl) rfl
theorem q765 : (Jvm.Cond.fieldLink "Reorderium" (69 : Nat) "Reorderium" "free" "Ljava/util/ArrayDeque;") ∈ lw_all := lw_g (lw_at lw_m3 177 rfl) rfl
theorem q766 : (Jvm.Cond.fieldLink "Reorderium" (73 : Nat) "Reorderium" "fetched" "Ljava/util/ArrayDeque;") ∈ lw_all := lw_g (lw_at lw_m3 178 rfl) rfl
theorem q767 : (Jvm.Cond.fieldLink "Reorderium" (79 : Nat) "Reorderium" "buffer" "Ljava/util/LinkedList;") ∈ lw_all := lw_g (lw_at lw_m3 179 rfl) rfl
theorem q768 : (Jvm.Cond.fieldLink "Reorderium" (83 : Nat) "Reorderium" "queue" "Ljava/util/LinkedList;") ∈ lw_all := lw_g (lw_at lw_m3 180 rfl) rfl
theorem q769 : (Jvm.Cond.fieldLink "Reorderium" (294 : Nat) "Reorderium" "fetchPlace" "I") ∈ lw_all := lw_g (lw_at lw_m3 181 rfl) rfl
theorem q770 : (Jvm.Cond.fieldLink "Reorderium" (547 : Nat) "Reorderium" "lastAge" "J") ∈ lw_all := lw_g (lw_at lw_m3 182 rfl) rfl
theorem q771 : (Jvm.Cond.fieldLink "Reorderium" (86 : Nat) "Reorderium" "returns" "[I") ∈ lw_all := lw_g (lw_at lw_m3 183 rfl) rfl
theorem q772 : (Jvm.Cond.fieldLink "Reorderium" (89 : Nat) "Reorderium" "counters" "[I") ∈ lw_all := lw_g (lw_at lw_m3 184 rfl) rfl
theorem q773 : (Jvm.Cond.fieldLink "Reorderium" (92 : Nat) "Reorderium" "targets" "[I") ∈ lw_all := lw_g (lw_at lw_m3 185 rfl) rfl
theorem q774 : (Jvm.Cond.fieldLink "Reorderium" (95 : Nat) "Reorderium" "marks" "Ljava/util/BitSet;") ∈ lw_all := lw_g (lw_at lw_m3 186 rfl) rfl
theorem q775 : (Jvm.Cond.fieldLink "Reorderium" (98 : Nat) "Reorderium" "times" "[I") ∈ lw_all := lw_g (lw_at lw_m3 187 rfl) rfl
theorem q776 : (Jvm.Cond.fieldLink "Reorderium" (101 : Nat) "Reorderium" "lines" "[I") ∈ lw_all := lw_g (lw_at lw_m3 188 rfl) rfl
theorem q777 : (Jvm.Cond.fieldLink "Reorderium" (104 : Nat) "Reorderium" "asked" "Ljava/util/LinkedList;") ∈ lw_all := lw_g (lw_at lw_m3 189 rfl) rfl
theorem q778 : (Jvm.Cond.fieldLink "Reorderium" (153 : Nat) "Reorderium" "cycle" "I") ∈ lw_all := lw_g (lw_at lw_m3 190 rfl) rfl
theorem q779 : (Jvm.Cond.fieldLink "Reorderium" (402 : Nat) "Reorderium" "nextPlace" "I") ∈ lw_all := lw_g (lw_at lw_m3 191 rfl) rfl
theorem q780 : (Jvm.Cond.fieldLink "Reorderium" (369 : Nat) "Reorderium" "isInterruptAsked" "Z") ∈ lw_all := lw_g (lw_at lw_m3 192 rfl) rfl
theorem q781 : (Jvm.Cond.fieldLink "Reorderium" (416 : Nat) "Reorderium" "hasStopped" "Z") ∈ lw_all := lw_g (lw_at lw_m3 193 rfl) rfl
theorem q782 : (Jvm.Cond.fieldLink "Reorderium" (107 : Nat) "Reorderium" "ends" "Ljava/util/List;") ∈ lw_all := lw_g (lw_at lw_m3 194 rfl) rfl
theorem q783 : (Jvm.Cond.fieldLink "Reorderium" (118 : Nat) "Reorderium" "lost" "[I") ∈ lw_all := lw_g (lw_at lw_m3 195 rfl) rfl
theorem q784 : (Jvm.Cond.fieldLink "Reorderium" (322 : Nat) "Reorderium" "wrong" "I") ∈ lw_all := lw_g (lw_at lw_m3 196 rfl) rfl
theorem q785 : (Jvm.Cond.fieldLink "Reorderium" (281 : Nat) "Reorderium" "early" "I") ∈ lw_all := lw_g (lw_at lw_m3 197 rfl) rfl
theorem q786 : (Jvm.Cond.fieldLink "Reorderium" (337 : Nat) "Reorderium" "thrown" "I") ∈ lw_all := lw_g (lw_at lw_m3 198 rfl) rfl
theorem q787 : (Jvm.Cond.fieldLink "Reorderium" (486 : Nat) "Reorderium" "taken" "I") ∈ lw_all := lw_g (lw_at lw_m3 199 rfl) rfl
theorem q788 : (Jvm.Cond.fieldLink "Reorderium" (489 : Nat) "Reorderium" "read" "J") ∈ lw_all := lw_g (lw_at lw_m3 200 rfl) rfl
theorem q789 : (Jvm.Cond.laysFinal "Reorderium" "Reorderium" "program" "Ljava/util/List;") ∈ lw_all := lw_g (lw_at lw_m3 201 rfl) rfl
theorem q790 : (Jvm.Cond.soleField "Reorderium" "program") ∈ lw_all := lw_g (lw_at lw_m3 202 rfl) rfl
theorem q791 : (Jvm.Cond.laysFinal "Reorderium" "Reorderium" "firstRegisters" "[I") ∈ lw_all := lw_g (lw_at lw_m3 203 rfl) rfl
theorem q792 : (Jvm.Cond.soleField "Reorderium" "firstRegisters") ∈ lw_all := lw_g (lw_at lw_m3 204 rfl) rfl
theorem q793 : (Jvm.Cond.laysFinal "Reorderium" "Reorderium" "firstWords" "[I") ∈ lw_all := lw_g (lw_at lw_m3 205 rfl) rfl
theorem q794 : (Jvm.Cond.soleField "Reorderium" "firstWords") ∈ lw_all := lw_g (lw_at lw_m3 206 rfl) rfl
theorem q795 : (Jvm.Cond.laysFinal "Reorderium" "Reorderium" "words" "[I") ∈ lw_all := lw_g (lw_at lw_m3 207 rfl) rfl
theorem q796 : (Jvm.Cond.soleField "Reorderium" "words") ∈ lw_all := lw_g (lw_at lw_m3 208 rfl) rfl
theorem q797 : (Jvm.Cond.laysFinal "Reorderium" "Reorderium" "handling" "LReorderium$Handling;") ∈ lw_all := lw_g (lw_at lw_m3 209 rfl) rfl
theorem q798 : (Jvm.Cond.soleField "Reorderium" "handling") ∈ lw_all := lw_g (lw_at lw_m3 210 rfl) rfl
theorem q799 : (Jvm.Cond.lays "Reorderium" "Reorderium" "width" "I") ∈ lw_all := lw_g (lw_at lw_m3 211 rfl) rfl
theorem q800 : (Jvm.Cond.soleField "Reorderium" "width") ∈ lw_all := lw_g (lw_at lw_m3 212 rfl) rfl
theorem q801 : (Jvm.Cond.lays "Reorderium" "Reorderium" "bufferSize" "I") ∈ lw_all := lw_g (lw_at lw_m3 213 rfl) rfl
theorem q802 : (Jvm.Cond.soleField "Reorderium" "bufferSize") ∈ lw_all := lw_g (lw_at lw_m3 214 rfl) rfl
theorem q803 : (Jvm.Cond.lays "Reorderium" "Reorderium" "queueSize" "I") ∈ lw_all := lw_g (lw_at lw_m3 215 rfl) rfl
theorem q804 : (Jvm.Cond.soleField "Reorderium" "queueSize") ∈ lw_all := lw_g (lw_at lw_m3 216 rfl) rfl
theorem q805 : (Jvm.Cond.lays "Reorderium" "Reorderium" "innerMany" "I") ∈ lw_all := lw_g (lw_at lw_m3 217 rfl) rfl
theorem q806 : (Jvm.Cond.soleField "Reorderium" "innerMany") ∈ lw_all := lw_g (lw_at lw_m3 218 rfl) rfl
theorem q807 : (Jvm.Cond.laysFinal "Reorderium" "Reorderium" "values" "[I") ∈ lw_all := lw_g (lw_at lw_m3 219 rfl) rfl
theorem q808 : (Jvm.Cond.soleField "Reorderium" "values") ∈ lw_all := lw_g (lw_at lw_m3 220 rfl) rfl
theorem q809 : (Jvm.Cond.laysFinal "Reorderium" "Reorderium" "ready" "Ljava/util/BitSet;") ∈ lw_all := lw_g (lw_at lw_m3 221 rfl) rfl
theorem q810 : (Jvm.Cond.soleField "Reorderium" "ready") ∈ lw_all := lw_g (lw_at lw_m3 222 rfl) rfl
theorem q811 : (Jvm.Cond.laysFinal "Reorderium" "Reorderium" "map" "[I") ∈ lw_all := lw_g (lw_at lw_m3 223 rfl) rfl
theorem q812 : (Jvm.Cond.soleField "Reorderium" "map") ∈ lw_all := lw_g (lw_at lw_m3 224 rfl) rfl
theorem q813 : (Jvm.Cond.laysFinal "Reorderium" "Reorderium" "retiredMap" "[I") ∈ lw_all := lw_g (lw_at lw_m3 225 rfl) rfl
theorem q814 : (Jvm.Cond.soleField "Reorderium" "retiredMap") ∈ lw_all := lw_g (lw_at lw_m3 226 rfl) rfl
theorem q815 : (Jvm.Cond.laysFinal "Reorderium" "Reorderium" "free" "Ljava/util/ArrayDeque;") ∈ lw_all := lw_g (lw_at lw_m3 227 rfl) rfl
theorem q816 : (Jvm.Cond.soleField "Reorderium" "free") ∈ lw_all := lw_g (lw_at lw_m3 228 rfl) rfl
theorem q817 : (Jvm.Cond.laysFinal "Reorderium" "Reorderium" "fetched" "Ljava/util/ArrayDeque;") ∈ lw_all := lw_g (lw_at lw_m3 229 rfl) rfl
theorem q818 : (Jvm.Cond.soleField "Reorderium" "fetched") ∈ lw_all := lw_g (lw_at lw_m3 230 rfl) rfl
theorem q819 : (Jvm.Cond.laysFinal "Reorderium" "Reorderium" "buffer" "Ljava/util/LinkedList;") ∈ lw_all := lw_g (lw_at lw_m3 231 rfl) rfl
theorem q820 : (Jvm.Cond.soleField "Reorderium" "buffer") ∈ lw_all := lw_g (lw_at lw_m3 232 rfl) rfl
theorem q821 : (Jvm.Cond.laysFinal "Reorderium" "Reorderium" "queue" "Ljava/util/LinkedList;") ∈ lw_all := lw_g (lw_at lw_m3 233 rfl) rfl
theorem q822 : (Jvm.Cond.soleField "Reorderium" "queue") ∈ lw_all := lw_g (lw_at lw_m3 234 rfl) rfl
theorem q823 : (Jvm.Cond.lays "Reorderium" "Reorderium" "fetchPlace" "I") ∈ lw_all := lw_g (lw_at lw_m3 235 rfl) rfl
theorem q824 : (Jvm.Cond.soleField "Reorderium" "fetchPlace") ∈ lw_all := lw_g (lw_at lw_m3 236 rfl) rfl
theorem q825 : (Jvm.Cond.lays "Reorderium" "Reorderium" "lastAge" "J") ∈ lw_all := lw_g (lw_at lw_m3 237 rfl) rfl
theorem q826 : (Jvm.Cond.soleField "Reorderium" "lastAge") ∈ lw_all := lw_g (lw_at lw_m3 238 rfl) rfl
theorem q827 : (Jvm.Cond.lays "Reorderium" "Reorderium" "returns" "[I") ∈ lw_all := lw_g (lw_at lw_m3 239 rfl) rfl
theorem q828 : (Jvm.Cond.soleField "Reorderium" "returns") ∈ lw_all := lw_g (lw_at lw_m4 0 rfl) rfl
theorem q829 : (Jvm.Cond.laysFinal "Reorderium" "Reorderium" "counters" "[I") ∈ lw_all := lw_g (lw_at lw_m4 1 rfl) rfl
theorem q830 : (Jvm.Cond.soleField "Reorderium" "counters") ∈ lw_all := lw_g (lw_at lw_m4 2 rfl) rfl
theorem q831 : (Jvm.Cond.laysFinal "Reorderium" "Reorderium" "targets" "[I") ∈ lw_all := lw_g (lw_at lw_m4 3 rfl) rfl
theorem q832 : (Jvm.Cond.soleField "Reorderium" "targets") ∈ lw_all := lw_g (lw_at lw_m4 4 rfl) rfl
theorem q833 : (Jvm.Cond.laysFinal "Reorderium" "Reorderium" "marks" "Ljava/util/BitSet;") ∈ lw_all := lw_g (lw_at lw_m4 5 rfl) rfl
theorem q834 : (Jvm.Cond.soleField "Reorderium" "marks") ∈ lw_all := lw_g (lw_at lw_m4 6 rfl) rfl
theorem q835 : (Jvm.Cond.laysFinal "Reorderium" "Reorderium" "times" "[I") ∈ lw_all := lw_g (lw_at lw_m4 7 rfl) rfl
theorem q836 : (Jvm.Cond.soleField "Reorderium" "times") ∈ lw_all := lw_g (lw_at lw_m4 8 rfl) rfl
theorem q837 : (Jvm.Cond.laysFinal "Reorderium" "Reorderium" "lines" "[I") ∈ lw_all := lw_g (lw_at lw_m4 9 rfl) rfl
theorem q838 : (Jvm.Cond.soleField "Reorderium" "lines") ∈ lw_all := lw_g (lw_at lw_m4 10 rfl) rfl
theorem q839 : (Jvm.Cond.laysFinal "Reorderium" "Reorderium" "asked" "Ljava/util/LinkedList;") ∈ lw_all := lw_g (lw_at lw_m4 11 rfl) rfl
theorem q840 : (Jvm.Cond.soleField "Reorderium" "asked") ∈ lw_all := lw_g (lw_at lw_m4 12 rfl) rfl
theorem q841 : (Jvm.Cond.lays "Reorderium" "Reorderium" "cycle" "I") ∈ lw_all := lw_g (lw_at lw_m4 13 rfl) rfl
theorem q842 : (Jvm.Cond.soleField "Reorderium" "cycle") ∈ lw_all := lw_g (lw_at lw_m4 14 rfl) rfl
theorem q843 : (Jvm.Cond.lays "Reorderium" "Reorderium" "nextPlace" "I") ∈ lw_all := lw_g (lw_at lw_m4 15 rfl) rfl
theorem q844 : (Jvm.Cond.soleField "Reorderium" "nextPlace") ∈ lw_all := lw_g (lw_at lw_m4 16 rfl) rfl
theorem q845 : (Jvm.Cond.lays "Reorderium" "Reorderium" "isInterruptAsked" "Z") ∈ lw_all := lw_g (lw_at lw_m4 17 rfl) rfl
theorem q846 : (Jvm.Cond.soleField "Reorderium" "isInterruptAsked") ∈ lw_all := lw_g (lw_at lw_m4 18 rfl) rfl
theorem q847 : (Jvm.Cond.lays "Reorderium" "Reorderium" "hasStopped" "Z") ∈ lw_all := lw_g (lw_at lw_m4 19 rfl) rfl
theorem q848 : (Jvm.Cond.soleField "Reorderium" "hasStopped") ∈ lw_all := lw_g (lw_at lw_m4 20 rfl) rfl
theorem q849 : (Jvm.Cond.laysFinal "Reorderium" "Reorderium" "ends" "Ljava/util/List;") ∈ lw_all := lw_g (lw_at lw_m4 21 rfl) rfl
theorem q850 : (Jvm.Cond.soleField "Reorderium" "ends") ∈ lw_all := lw_g (lw_at lw_m4 22 rfl) rfl
theorem q851 : (Jvm.Cond.laysFinal "Reorderium" "Reorderium" "lost" "[I") ∈ lw_all := lw_g (lw_at lw_m4 23 rfl) rfl
theorem q852 : (Jvm.Cond.soleField "Reorderium" "lost") ∈ lw_all := lw_g (lw_at lw_m4 24 rfl) rfl
theorem q853 : (Jvm.Cond.lays "Reorderium" "Reorderium" "wrong" "I") ∈ lw_all := lw_g (lw_at lw_m4 25 rfl) rfl
theorem q854 : (Jvm.Cond.soleField "Reorderium" "wrong") ∈ lw_all := lw_g (lw_at lw_m4 26 rfl) rfl
theorem q855 : (Jvm.Cond.lays "Reorderium" "Reorderium" "early" "I") ∈ lw_all := lw_g (lw_at lw_m4 27 rfl) rfl
theorem q856 : (Jvm.Cond.soleField "Reorderium" "early") ∈ lw_all := lw_g (lw_at lw_m4 28 rfl) rfl
theorem q857 : (Jvm.Cond.lays "Reorderium" "Reorderium" "thrown" "I") ∈ lw_all := lw_g (lw_at lw_m4 29 rfl) rfl
theorem q858 : (Jvm.Cond.soleField "Reorderium" "thrown") ∈ lw_all := lw_g (lw_at lw_m4 30 rfl) rfl
theorem q859 : (Jvm.Cond.lays "Reorderium" "Reorderium" "taken" "I") ∈ lw_all := lw_g (lw_at lw_m4 31 rfl) rfl
theorem q860 : (Jvm.Cond.soleField "Reorderium" "taken") ∈ lw_all := lw_g (lw_at lw_m4 32 rfl) rfl
theorem q861 : (Jvm.Cond.lays "Reorderium" "Reorderium" "read" "J") ∈ lw_all := lw_g (lw_at lw_m4 33 rfl) rfl
theorem q862 : (Jvm.Cond.soleField "Reorderium" "read") ∈ lw_all := lw_g (lw_at lw_m4 34 rfl) rfl
theorem q863 : (Jvm.Cond.superclass "Reorderium" "java/lang/Object") ∈ lw_all := lw_g (lw_at lw_m4 35 rfl) rfl
theorem q865 : (Jvm.Cond.instanceMethod ({ cls := "Reorderium", name := "interrupt", desc := "()Z" } : Jvm.MethodName)) ∈ lw_all := lw_g (lw_at lw_m4 37 rfl) rfl
theorem q866 : (Jvm.Cond.selects "Reorderium" ({ cls := "Reorderium", name := "interrupt", desc := "()Z" } : Jvm.MethodName) ({ cls := "Reorderium", name := "interrupt", desc := "()Z" } : Jvm.MethodName)) ∈ lw_all := lw_g (lw_at lw_m4 38 rfl) rfl
theorem q867 : (Jvm.Cond.code ({ cls := "Reorderium", name := "interrupt", desc := "()Z" } : Jvm.MethodName) prog_1_method_60_code (2 : Nat) (Option.some Jvm.ClassFile.FieldType.boolean)) ∈ lw_all := lw_g (lw_at lw_m4 39 rfl) rfl
theorem q869 : (Jvm.Cond.instanceMethod ({ cls := "Reorderium", name := "cycle", desc := "()I" } : Jvm.MethodName)) ∈ lw_all := lw_g (lw_at lw_m4 41 rfl) rfl
theorem q870 : (Jvm.Cond.selects "Reorderium" ({ cls := "Reorderium", name := "cycle", desc := "()I" } : Jvm.MethodName) ({ cls := "Reorderium", name := "cycle", desc := "()I" } : Jvm.MethodName)) ∈ lw_all := lw_g (lw_at lw_m4 42 rfl) rfl
theorem q871 : (Jvm.Cond.code ({ cls := "Reorderium", name := "cycle", desc := "()I" } : Jvm.MethodName) prog_1_method_62_code (1 : Nat) (Option.some Jvm.ClassFile.FieldType.int)) ∈ lw_all := lw_g (lw_at lw_m4 43 rfl) rfl
theorem q873 : (Jvm.Cond.instanceMethod ({ cls := "Reorderium", name := "hasStopped", desc := "()Z" } : Jvm.MethodName)) ∈ lw_all := lw_g (lw_at lw_m4 45 rfl) rfl
theorem q874 : (Jvm.Cond.selects "Reorderium" ({ cls := "Reorderium", name := "hasStopped", desc := "()Z" } : Jvm.MethodName) ({ cls := "Reorderium", name := "hasStopped", desc := "()Z" } : Jvm.MethodName)) ∈ lw_all := lw_g (lw_at lw_m4 46 rfl) rfl
theorem q875 : (Jvm.Cond.code ({ cls := "Reorderium", name := "hasStopped", desc := "()Z" } : Jvm.MethodName) prog_1_method_63_code (1 : Nat) (Option.some Jvm.ClassFile.FieldType.boolean)) ∈ lw_all := lw_g (lw_at lw_m4 47 rfl) rfl
theorem q877 : (Jvm.Cond.instanceMethod ({ cls := "Reorderium", name := "ends", desc := "()I" } : Jvm.MethodName)) ∈ lw_all := lw_g (lw_at lw_m4 49 rfl) rfl
theorem q878 : (Jvm.Cond.selects "Reorderium" ({ cls := "Reorderium", name := "ends", desc := "()I" } : Jvm.MethodName) ({ cls := "Reorderium", name := "ends", desc := "()I" } : Jvm.MethodName)) ∈ lw_all := lw_g (lw_at lw_m4 50 rfl) rfl
theorem q879 : (Jvm.Cond.code ({ cls := "Reorderium", name := "ends", desc := "()I" } : Jvm.MethodName) prog_1_method_64_code (1 : Nat) (Option.some Jvm.ClassFile.FieldType.int)) ∈ lw_all := lw_g (lw_at lw_m4 51 rfl) rfl
theorem q880 : (Jvm.Cond.interfaceEntry "Reorderium" (543 : Nat)) ∈ lw_tbl := lw_at lw_m4 52 rfl
theorem q881 : (Jvm.Cond.methodLink "Reorderium" (543 : Nat) ({ cls := "java/util/List", name := "size", desc := "()I" } : Jvm.MethodName)) ∈ lw_all := lw_g (lw_at lw_m4 53 rfl) rfl
theorem q897 : (Jvm.Cond.instanceMethod ({ cls := "Reorderium", name := "free", desc := "()I" } : Jvm.MethodName)) ∈ lw_all := lw_g (lw_at lw_m4 69 rfl) rfl
theorem q898 : (Jvm.Cond.selects "Reorderium" ({ cls := "Reorderium", name := "free", desc := "()I" } : Jvm.MethodName) ({ cls := "Reorderium", name := "free", desc := "()I" } : Jvm.MethodName)) ∈ lw_all := lw_g (lw_at lw_m4 70 rfl) rfl
theorem q899 : (Jvm.Cond.code ({ cls := "Reorderium", name := "free", desc := "()I" } : Jvm.MethodName) prog_1_method_84_code (1 : Nat) (Option.some Jvm.ClassFile.FieldType.int)) ∈ lw_all := lw_g (lw_at lw_m4 71 rfl) rfl
theorem q900 : (Jvm.Cond.methodLink "Reorderium" (542 : Nat) ({ cls := "java/util/ArrayDeque", name := "size", desc := "()I" } : Jvm.MethodName)) ∈ lw_all := lw_g (lw_at lw_m4 72 rfl) rfl
theorem q908 : (Jvm.Cond.instanceMethod ({ cls := "Reorderium", name := "inBuffer", desc := "()I" } : Jvm.MethodName)) ∈ lw_all := lw_g (lw_at lw_m4 80 rfl) rfl
theorem q909 : (Jvm.Cond.selects "Reorderium" ({ cls := "Reorderium", name := "inBuffer", desc := "()I" } : Jvm.MethodName) ({ cls := "Reorderium", name := "inBuffer", desc := "()I" } : Jvm.MethodName)) ∈ lw_all := lw_g (lw_at lw_m4 81 rfl) rfl
theorem q910 : (Jvm.Cond.code ({ cls := "Reorderium", name := "inBuffer", desc := "()I" } : Jvm.MethodName) prog_1_method_86_code (1 : Nat) (Option.some Jvm.ClassFile.FieldType.int)) ∈ lw_all := lw_g (lw_at lw_m4 82 rfl) rfl
theorem q911 : (Jvm.Cond.methodLink "Reorderium" (496 : Nat) ({ cls := "java/util/LinkedList", name := "size", desc := "()I" } : Jvm.MethodName)) ∈ lw_all := lw_g (lw_at lw_m4 83 rfl) rfl
theorem q913 : (Jvm.Cond.instanceMethod ({ cls := "Reorderium", name := "inQueue", desc := "()I" } : Jvm.MethodName)) ∈ lw_all := lw_g (lw_at lw_m4 85 rfl) rfl
theorem q914 : (Jvm.Cond.selects "Reorderium" ({ cls := "Reorderium", name := "inQueue", desc := "()I" } : Jvm.MethodName) ({ cls := "Reorderium", name := "inQueue", desc := "()I" } : Jvm.MethodName)) ∈ lw_all := lw_g (lw_at lw_m4 86 rfl) rfl
theorem q915 : (Jvm.Cond.code ({ cls := "Reorderium", name := "inQueue", desc := "()I" } : Jvm.MethodName) prog_1_method_90_code (1 : Nat) (Option.some Jvm.ClassFile.FieldType.int)) ∈ lw_all := lw_g (lw_at lw_m4 87 rfl) rfl
theorem q917 : (Jvm.Cond.instanceMethod ({ cls := "Reorderium", name := "fetched", desc := "()I" } : Jvm.MethodName)) ∈ lw_all := lw_g (lw_at lw_m4 89 rfl) rfl
theorem q918 : (Jvm.Cond.selects "Reorderium" ({ cls := "Reorderium", name := "fetched", desc := "()I" } : Jvm.MethodName) ({ cls := "Reorderium", name := "fetched", desc := "()I" } : Jvm.MethodName)) ∈ lw_all := lw_g (lw_at lw_m4 90 rfl) rfl
theorem q919 : (Jvm.Cond.code ({ cls := "Reorderium", name := "fetched", desc := "()I" } : Jvm.MethodName) prog_1_method_91_code (1 : Nat) (Option.some Jvm.ClassFile.FieldType.int)) ∈ lw_all := lw_g (lw_at lw_m4 91 rfl) rfl
theorem q921 : (Jvm.Cond.instanceMethod ({ cls := "Reorderium", name := "returns", desc := "()I" } : Jvm.MethodName)) ∈ lw_all := lw_g (lw_at lw_m4 93 rfl) rfl
theorem q922 : (Jvm.Cond.selects "Reorderium" ({ cls := "Reorderium", name := "returns", desc := "()I" } : Jvm.MethodName) ({ cls := "Reorderium", name := "returns", desc := "()I" } : Jvm.MethodName)) ∈ lw_all := lw_g (lw_at lw_m4 94 rfl) rfl
theorem q923 : (Jvm.Cond.code ({ cls := "Reorderium", name := "returns", desc := "()I" } : Jvm.MethodName) prog_1_method_93_code (1 : Nat) (Option.some Jvm.ClassFile.FieldType.int)) ∈ lw_all := lw_g (lw_at lw_m4 95 rfl) rfl
theorem q925 : (Jvm.Cond.instanceMethod ({ cls := "Reorderium", name := "asked", desc := "()I" } : Jvm.MethodName)) ∈ lw_all := lw_g (lw_at lw_m4 97 rfl) rfl
theorem q926 : (Jvm.Cond.selects "Reorderium" ({ cls := "Reorderium", name := "asked", desc := "()I" } : Jvm.MethodName) ({ cls := "Reorderium", name := "asked", desc := "()I" } : Jvm.MethodName)) ∈ lw_all := lw_g (lw_at lw_m4 98 rfl) rfl
theorem q927 : (Jvm.Cond.code ({ cls := "Reorderium", name := "asked", desc := "()I" } : Jvm.MethodName) prog_1_method_98_code (1 : Nat) (Option.some Jvm.ClassFile.FieldType.int)) ∈ lw_all := lw_g (lw_at lw_m4 99 rfl) rfl
theorem q929 : (Jvm.Cond.instanceMethod ({ cls := "Reorderium", name := "wrong", desc := "()I" } : Jvm.MethodName)) ∈ lw_all := lw_g (lw_at lw_m4 101 rfl) rfl
theorem q930 : (Jvm.Cond.selects "Reorderium" ({ cls := "Reorderium", name := "wrong", desc := "()I" } : Jvm.MethodName) ({ cls := "Reorderium", name := "wrong", desc := "()I" } : Jvm.MethodName)) ∈ lw_all := lw_g (lw_at lw_m4 102 rfl) rfl
theorem q931 : (Jvm.Cond.code ({ cls := "Reorderium", name := "wrong", desc := "()I" } : Jvm.MethodName) prog_1_method_100_code (1 : Nat) (Option.some Jvm.ClassFile.FieldType.int)) ∈ lw_all := lw_g (lw_at lw_m4 103 rfl) rfl
theorem q933 : (Jvm.Cond.instanceMethod ({ cls := "Reorderium", name := "early", desc := "()I" } : Jvm.MethodName)) ∈ lw_all := lw_g (lw_at lw_m4 105 rfl) rfl
theorem q934 : (Jvm.Cond.selects "Reorderium" ({ cls := "Reorderium", name := "early", desc := "()I" } : Jvm.MethodName) ({ cls := "Reorderium", name := "early", desc := "()I" } : Jvm.MethodName)) ∈ lw_all := lw_g (lw_at lw_m4 106 rfl) rfl
theorem q935 : (Jvm.Cond.code ({ cls := "Reorderium", name := "early", desc := "()I" } : Jvm.MethodName) prog_1_method_101_code (1 : Nat) (Option.some Jvm.ClassFile.FieldType.int)) ∈ lw_all := lw_g (lw_at lw_m4 107 rfl) rfl
theorem q937 : (Jvm.Cond.instanceMethod ({ cls := "Reorderium", name := "thrownAway", desc := "()I" } : Jvm.MethodName)) ∈ lw_all := lw_g (lw_at lw_m4 109 rfl) rfl
theorem q938 : (Jvm.Cond.selects "Reorderium" ({ cls := "Reorderium", name := "thrownAway", desc := "()I" } : Jvm.MethodName) ({ cls := "Reorderium", name := "thrownAway", desc := "()I" } : Jvm.MethodName)) ∈ lw_all := lw_g (lw_at lw_m4 110 rfl) rfl
theorem q939 : (Jvm.Cond.code ({ cls := "Reorderium", name := "thrownAway", desc := "()I" } : Jvm.MethodName) prog_1_method_102_code (1 : Nat) (Option.some Jvm.ClassFile.FieldType.int)) ∈ lw_all := lw_g (lw_at lw_m4 111 rfl) rfl
theorem q941 : (Jvm.Cond.instanceMethod ({ cls := "Reorderium", name := "taken", desc := "()I" } : Jvm.MethodName)) ∈ lw_all := lw_g (lw_at lw_m4 113 rfl) rfl
theorem q942 : (Jvm.Cond.selects "Reorderium" ({ cls := "Reorderium", name := "taken", desc := "()I" } : Jvm.MethodName) ({ cls := "Reorderium", name := "taken", desc := "()I" } : Jvm.MethodName)) ∈ lw_all := lw_g (lw_at lw_m4 114 rfl) rfl
theorem q943 : (Jvm.Cond.code ({ cls := "Reorderium", name := "taken", desc := "()I" } : Jvm.MethodName) prog_1_method_103_code (1 : Nat) (Option.some Jvm.ClassFile.FieldType.int)) ∈ lw_all := lw_g (lw_at lw_m4 115 rfl) rfl
theorem q945 : (Jvm.Cond.instanceMethod ({ cls := "Reorderium", name := "hits", desc := "()J" } : Jvm.MethodName)) ∈ lw_all := lw_g (lw_at lw_m4 117 rfl) rfl
theorem q946 : (Jvm.Cond.selects "Reorderium" ({ cls := "Reorderium", name := "hits", desc := "()J" } : Jvm.MethodName) ({ cls := "Reorderium", name := "hits", desc := "()J" } : Jvm.MethodName)) ∈ lw_all := lw_g (lw_at lw_m4 118 rfl) rfl
theorem q947 : (Jvm.Cond.code ({ cls := "Reorderium", name := "hits", desc := "()J" } : Jvm.MethodName) prog_1_method_104_code (1 : Nat) (Option.some Jvm.ClassFile.FieldType.long)) ∈ lw_all := lw_g (lw_at lw_m4 119 rfl) rfl
theorem q949 : (Jvm.Cond.instanceMethod ({ cls := "Reorderium", name := "isSame", desc := "()Z" } : Jvm.MethodName)) ∈ lw_all := lw_g (lw_at lw_m4 121 rfl) rfl
theorem q950 : (Jvm.Cond.selects "Reorderium" ({ cls := "Reorderium", name := "isSame", desc := "()Z" } : Jvm.MethodName) ({ cls := "Reorderium", name := "isSame", desc := "()Z" } : Jvm.MethodName)) ∈ lw_all := lw_g (lw_at lw_m4 122 rfl) rfl
theorem q951 : (Jvm.Cond.code ({ cls := "Reorderium", name := "isSame", desc := "()Z" } : Jvm.MethodName) prog_1_method_106_code (5 : Nat) (Option.some Jvm.ClassFile.FieldType.boolean)) ∈ lw_all := lw_g (lw_at lw_m4 123 rfl) rfl
theorem q952 : (Jvm.Cond.methodLink "Reorderium" (618 : Nat) ({ cls := "Reorderium", name := "plain", desc := "()LReorderium$Plain;" } : Jvm.MethodName)) ∈ lw_all := lw_g (lw_at lw_m4 124 rfl) rfl
theorem q953 : (Jvm.Cond.privateMethod ({ cls := "Reorderium", name := "plain", desc := "()LReorderium$Plain;" } : Jvm.MethodName)) ∈ lw_tbl := lw_at lw_m4 125 rfl
theorem q954 : (Jvm.Cond.instanceMethod ({ cls := "Reorderium", name := "plain", desc := "()LReorderium$Plain;" } : Jvm.MethodName)) ∈ lw_all := lw_g (lw_at lw_m4 126 rfl) rfl
theorem q955 : (Jvm.Cond.code ({ cls := "Reorderium", name := "plain", desc := "()LReorderium$Plain;" } : Jvm.MethodName) prog_1_method_68_code (1 : Nat) (Option.some (Jvm.ClassFile.FieldType.object "Reorderium$Plain"))) ∈ lw_all := lw_g (lw_at lw_m4 127 rfl) rfl
theorem q956 : (Jvm.Cond.classLink "Reorderium" (604 : Nat) "Reorderium$Plain") ∈ lw_all := lw_g (lw_at lw_m4 128 rfl) rfl
theorem q958 : (Jvm.Cond.methodLink "Reorderium" (606 : Nat) ({ cls := "Reorderium$Handling", name := "anew", desc := "()LReorderium$Handling;" } : Jvm.MethodName)) ∈ lw_all := lw_g (lw_at lw_m4 130 rfl) rfl
theorem q964 : (Jvm.Cond.methodLink "Reorderium" (610 : Nat) ({ cls := "Reorderium$Plain", name := "<init>", desc := "(Ljava/util/List;[I[ILReorderium$Handling;)V" } : Jvm.MethodName)) ∈ lw_all := lw_g (lw_at lw_m4 136 rfl) rfl
theorem q971 : (Jvm.Cond.fieldLinkNest "Reorderium" (631 : Nat) "Reorderium$Plain" "registers" "[I" "Reorderium") ∈ lw_tbl := lw_at lw_m4 143 rfl
theorem q973 : (Jvm.Cond.fieldLinkNest "Reorderium" (634 : Nat) "Reorderium$Plain" "words" "[I" "Reorderium") ∈ lw_tbl := lw_at lw_m4 145 rfl
theorem q975 : (Jvm.Cond.fieldLinkNest "Reorderium" (666 : Nat) "Reorderium$Plain" "handling" "LReorderium$Handling;" "Reorderium") ∈ lw_tbl := lw_at lw_m4 147 rfl
theorem q977 : (Jvm.Cond.fieldLinkNest "Reorderium" (630 : Nat) "Reorderium$Plain" "place" "I" "Reorderium") ∈ lw_tbl := lw_at lw_m4 149 rfl
theorem q992 : (Jvm.Cond.interfaceEntry "Reorderium" (208 : Nat)) ∈ lw_tbl := lw_at lw_m4 164 rfl
theorem q993 : (Jvm.Cond.methodLink "Reorderium" (208 : Nat) ({ cls := "java/util/List", name := "iterator", desc := "()Ljava/util/Iterator;" } : Jvm.MethodName)) ∈ lw_all := lw_g (lw_at lw_m4 165 rfl) rfl
theorem q1121 : (Jvm.Cond.interfaceEntry "Reorderium" (164 : Nat)) ∈ lw_tbl := lw_at lw_m5 53 rfl
theorem q1122 : (Jvm.Cond.methodLink "Reorderium" (164 : Nat) ({ cls := "java/util/Iterator", name := "hasNext", desc := "()Z" } : Jvm.MethodName)) ∈ lw_all := lw_g (lw_at lw_m5 54 rfl) rfl
theorem q1167 : (Jvm.Cond.interfaceEntry "Reorderium" (170 : Nat)) ∈ lw_tbl := lw_at lw_m5 99 rfl
theorem q1168 : (Jvm.Cond.methodLink "Reorderium" (170 : Nat) ({ cls := "java/util/Iterator", name := "next", desc := "()Ljava/lang/Object;" } : Jvm.MethodName)) ∈ lw_all := lw_g (lw_at lw_m5 100 rfl) rfl
theorem q1325 : (Jvm.Cond.classLink "Reorderium" (400 : Nat) "Reorderium$End") ∈ lw_all := lw_g (lw_at lw_m6 17 rfl) rfl
theorem q1326 : (Jvm.Cond.methodLink "Reorderium" (622 : Nat) ({ cls := "Reorderium", name := "follow", desc := "(LReorderium$Plain;LReorderium$End;)I" } : Jvm.MethodName)) ∈ lw_all := lw_g (lw_at lw_m6 18 rfl) rfl
theorem q1327 : (Jvm.Cond.static ({ cls := "Reorderium", name := "follow", desc := "(LReorderium$Plain;LReorderium$End;)I" } : Jvm.MethodName)) ∈ lw_all := lw_g (lw_at lw_m6 19 rfl) rfl
theorem q1328 : (Jvm.Cond.code ({ cls := "Reorderium", name := "follow", desc := "(LReorderium$Plain;LReorderium$End;)I" } : Jvm.MethodName) prog_1_method_69_code (2 : Nat) (Option.some Jvm.ClassFile.FieldType.int)) ∈ lw_all := lw_g (lw_at lw_m6 20 rfl) rfl
theorem q1329 : (Jvm.Cond.methodLink "Reorderium" (613 : Nat) ({ cls := "Reorderium$Plain", name := "interrupt", desc := "()I" } : Jvm.MethodName)) ∈ lw_all := lw_g (lw_at lw_m6 21 rfl) rfl
theorem q1337 : (Jvm.Cond.methodLink "Reorderium" (615 : Nat) ({ cls := "Reorderium$Plain", name := "step", desc := "()I" } : Jvm.MethodName)) ∈ lw_all := lw_g (lw_at lw_m6 29 rfl) rfl
theorem q1344 : (Jvm.Cond.static ({ cls := "Reorderium", name := "isBetween", desc := "(III)Z" } : Jvm.MethodName)) ∈ lw_all := lw_g (lw_at lw_m6 36 rfl) rfl
theorem q1345 : (Jvm.Cond.code ({ cls := "Reorderium", name := "isBetween", desc := "(III)Z" } : Jvm.MethodName) prog_1_method_1_code (3 : Nat) (Option.some Jvm.ClassFile.FieldType.boolean)) ∈ lw_all := lw_g (lw_at lw_m6 37 rfl) rfl
theorem q1374 : (Jvm.Cond.static ({ cls := "Reorderium", name := "isAddress", desc := "(I)Z" } : Jvm.MethodName)) ∈ lw_all := lw_g (lw_at lw_m6 66 rfl) rfl
theorem q1375 : (Jvm.Cond.code ({ cls := "Reorderium", name := "isAddress", desc := "(I)Z" } : Jvm.MethodName) prog_1_method_2_code (1 : Nat) (Option.some Jvm.ClassFile.FieldType.boolean)) ∈ lw_all := lw_g (lw_at lw_m6 67 rfl) rfl
theorem q1376 : (Jvm.Cond.methodLink "Reorderium" (3 : Nat) ({ cls := "Reorderium", name := "isBetween", desc := "(III)Z" } : Jvm.MethodName)) ∈ lw_all := lw_g (lw_at lw_m6 68 rfl) rfl
theorem q1382 : (Jvm.Cond.static ({ cls := "Reorderium", name := "isPlace", desc := "(I)Z" } : Jvm.MethodName)) ∈ lw_all := lw_g (lw_at lw_m6 74 rfl) rfl
theorem q1383 : (Jvm.Cond.code ({ cls := "Reorderium", name := "isPlace", desc := "(I)Z" } : Jvm.MethodName) prog_1_method_3_code (1 : Nat) (Option.some Jvm.ClassFile.FieldType.boolean)) ∈ lw_all := lw_g (lw_at lw_m6 75 rfl) rfl
theorem q1424 : (Jvm.Cond.methodLink "Reorderium" (667 : Nat) ({ cls := "Reorderium$Handling", name := "isSame", desc := "(LReorderium$Handling;)Z" } : Jvm.MethodName)) ∈ lw_all := lw_g (lw_at lw_m6 116 rfl) rfl
theorem q1429 : (Jvm.Cond.instanceMethod ({ cls := "Reorderium", name := "isWhole", desc := "()Z" } : Jvm.MethodName)) ∈ lw_all := lw_g (lw_at lw_m6 121 rfl) rfl
theorem q1430 : (Jvm.Cond.selects "Reorderium" ({ cls := "Reorderium", name := "isWhole", desc := "()Z" } : Jvm.MethodName) ({ cls := "Reorderium", name := "isWhole", desc := "()Z" } : Jvm.MethodName)) ∈ lw_all := lw_g (lw_at lw_m6 122 rfl) rfl
theorem q1431 : (Jvm.Cond.code ({ cls := "Reorderium", name := "isWhole", desc := "()Z" } : Jvm.MethodName) prog_1_method_107_code (7 : Nat) (Option.some Jvm.ClassFile.FieldType.boolean)) ∈ lw_all := lw_g (lw_at lw_m6 123 rfl) rfl
theorem q1432 : (Jvm.Cond.methodLink "Reorderium" (660 : Nat) ({ cls := "java/util/ArrayDeque", name := "iterator", desc := "()Ljava/util/Iterator;" } : Jvm.MethodName)) ∈ lw_all := lw_g (lw_at lw_m6 124 rfl) rfl
theorem q1456 : (Jvm.Cond.classLink "Reorderium" (132 : Nat) "java/lang/Integer") ∈ lw_all := lw_g (lw_at lw_m6 148 rfl) rfl
theorem q1457 : (Jvm.Cond.methodLink "Reorderium" (531 : Nat) ({ cls := "java/lang/Integer", name := "intValue", desc := "()I" } : Jvm.MethodName)) ∈ lw_all := lw_g (lw_at lw_m6 149 rfl) rfl
theorem q1461 : (Jvm.Cond.methodLink "Reorderium" (657 : Nat) ({ cls := "Reorderium", name := "has", desc := "([II)Z" } : Jvm.MethodName)) ∈ lw_all := lw_g (lw_at lw_m6 153 rfl) rfl
theorem q1462 : (Jvm.Cond.static ({ cls := "Reorderium", name := "has", desc := "([II)Z" } : Jvm.MethodName)) ∈ lw_all := lw_g (lw_at lw_m6 154 rfl) rfl
theorem q1463 : (Jvm.Cond.code ({ cls := "Reorderium", name := "has", desc := "([II)Z" } : Jvm.MethodName) prog_1_method_81_code (7 : Nat) (Option.some Jvm.ClassFile.FieldType.boolean)) ∈ lw_all := lw_g (lw_at lw_m6 155 rfl) rfl
theorem q1464 : (Jvm.Cond.methodLink "Reorderium" (160 : Nat) ({ cls := "java/util/LinkedList", name := "iterator", desc := "()Ljava/util/Iterator;" } : Jvm.MethodName)) ∈ lw_all := lw_g (lw_at lw_m6 156 rfl) rfl
theorem q1468 : (Jvm.Cond.classLink "Reorderium" (188 : Nat) "Reorderium$Flight") ∈ lw_all := lw_g (lw_at lw_m6 160 rfl) rfl
theorem q1475 : (Jvm.Cond.instanceMethod ({ cls := "Reorderium", name := "add", desc := "(IIIII)I" } : Jvm.MethodName)) ∈ lw_all := lw_g (lw_at lw_m6 167 rfl) rfl
theorem q1476 : (Jvm.Cond.selects "Reorderium" ({ cls := "Reorderium", name := "add", desc := "(IIIII)I" } : Jvm.MethodName) ({ cls := "Reorderium", name := "add", desc := "(IIIII)I" } : Jvm.MethodName)) ∈ lw_all := lw_g (lw_at lw_m6 168 rfl) rfl
theorem q1477 : (Jvm.Cond.code ({ cls := "Reorderium", name := "add", desc := "(IIIII)I" } : Jvm.MethodName) prog_1_method_51_code (6 : Nat) (Option.some Jvm.ClassFile.FieldType.int)) ∈ lw_all := lw_g (lw_at lw_m6 169 rfl) rfl
theorem q1478 : (Jvm.Cond.methodLink "Reorderium" (575 : Nat) ({ cls := "Reorderium", name := "isRegister", desc := "(I)Z" } : Jvm.MethodName)) ∈ lw_all := lw_g (lw_at lw_m6 170 rfl) rfl
theorem q1479 : (Jvm.Cond.static ({ cls := "Reorderium", name := "isRegister", desc := "(I)Z" } : Jvm.MethodName)) ∈ lw_all := lw_g (lw_at lw_m6 171 rfl) rfl
theorem q1480 : (Jvm.Cond.code ({ cls := "Reorderium", name := "isRegister", desc := "(I)Z" } : Jvm.MethodName) prog_1_method_10_code (1 : Nat) (Option.some Jvm.ClassFile.FieldType.boolean)) ∈ lw_all := lw_g (lw_at lw_m6 172 rfl) rfl
theorem q1481 : (Jvm.Cond.methodLink "Reorderium" (578 : Nat) ({ cls := "Reorderium", name := "checkArgument", desc := "(Z)V" } : Jvm.MethodName)) ∈ lw_all := lw_g (lw_at lw_m6 173 rfl) rfl
theorem q1482 : (Jvm.Cond.static ({ cls := "Reorderium", name := "checkArgument", desc := "(Z)V" } : Jvm.MethodName)) ∈ lw_all := lw_g (lw_at lw_m6 174 rfl) rfl
theorem q1483 : (Jvm.Cond.code ({ cls := "Reorderium", name := "checkArgument", desc := "(Z)V" } : Jvm.MethodName) prog_1_method_6_code (1 : Nat) (Option.none : Option Jvm.ClassFile.FieldType)) ∈ lw_all := lw_g (lw_at lw_m6 175 rfl) rfl
theorem q1484 : (Jvm.Cond.classLink "Reorderium" (141 : Nat) "java/lang/IllegalArgumentException") ∈ lw_all := lw_g (lw_at lw_m6 176 rfl) rfl
theorem q1485 : (Jvm.Cond.methodLink "Reorderium" (143 : Nat) ({ cls := "java/lang/IllegalArgumentException", name := "<init>", desc := "()V" } : Jvm.MethodName)) ∈ lw_all := lw_g (lw_at lw_m6 177 rfl) rfl
theorem q1489 : (Jvm.Cond.methodLink "Reorderium" (307 : Nat) ({ cls := "Reorderium", name := "isPlace", desc := "(I)Z" } : Jvm.MethodName)) ∈ lw_all := lw_g (lw_at lw_m6 181 rfl) rfl
theorem q1490 : (Jvm.Cond.methodLink "Reorderium" (581 : Nat) ({ cls := "Reorderium", name := "checkFresh", desc := "()V" } : Jvm.MethodName)) ∈ lw_all := lw_g (lw_at lw_m6 182 rfl) rfl
theorem q1491 : (Jvm.Cond.privateMethod ({ cls := "Reorderium", name := "checkFresh", desc := "()V" } : Jvm.MethodName)) ∈ lw_tbl := lw_at lw_m6 183 rfl
theorem q1492 : (Jvm.Cond.instanceMethod ({ cls := "Reorderium", name := "checkFresh", desc := "()V" } : Jvm.MethodName)) ∈ lw_all := lw_g (lw_at lw_m6 184 rfl) rfl
theorem q1493 : (Jvm.Cond.code ({ cls := "Reorderium", name := "checkFresh", desc := "()V" } : Jvm.MethodName) prog_1_method_11_code (1 : Nat) (Option.none : Option Jvm.ClassFile.FieldType)) ∈ lw_all := lw_g (lw_at lw_m6 185 rfl) rfl
theorem q1494 : (Jvm.Cond.methodLink "Reorderium" (156 : Nat) ({ cls := "Reorderium", name := "checkState", desc := "(Z)V" } : Jvm.MethodName)) ∈ lw_all := lw_g (lw_at lw_m6 186 rfl) rfl
theorem q1495 : (Jvm.Cond.static ({ cls := "Reorderium", name := "checkState", desc := "(Z)V" } : Jvm.MethodName)) ∈ lw_all := lw_g (lw_at lw_m6 187 rfl) rfl
theorem q1496 : (Jvm.Cond.code ({ cls := "Reorderium", name := "checkState", desc := "(Z)V" } : Jvm.MethodName) prog_1_method_7_code (1 : Nat) (Option.none : Option Jvm.ClassFile.FieldType)) ∈ lw_all := lw_g (lw_at lw_m6 188 rfl) rfl
theorem q1497 : (Jvm.Cond.classLink "Reorderium" (144 : Nat) "java/lang/IllegalStateException") ∈ lw_all := lw_g (lw_at lw_m6 189 rfl) rfl
theorem q1498 : (Jvm.Cond.methodLink "Reorderium" (146 : Nat) ({ cls := "java/lang/IllegalStateException", name := "<init>", desc := "()V" } : Jvm.MethodName)) ∈ lw_all := lw_g (lw_at lw_m6 190 rfl) rfl
theorem q1502 : (Jvm.Cond.classLink "Reorderium" (225 : Nat) "Reorderium$Instruction") ∈ lw_all := lw_g (lw_at lw_m6 194 rfl) rfl
theorem q1504 : (Jvm.Cond.methodLink "Reorderium" (584 : Nat) ({ cls := "Reorderium$Instruction", name := "<init>", desc := "(IIIII)V" } : Jvm.MethodName)) ∈ lw_all := lw_g (lw_at lw_m6 196 rfl) rfl
theorem q1511 : (Jvm.Cond.fieldLinkNest "Reorderium" (247 : Nat) "Reorderium$Instruction" "code" "I" "Reorderium") ∈ lw_tbl := lw_at lw_m6 203 rfl
theorem q1514 : (Jvm.Cond.fieldLinkNest "Reorderium" (340 : Nat) "Reorderium$Instruction" "d" "I" "Reorderium") ∈ lw_tbl := lw_at lw_m6 206 rfl
theorem q1517 : (Jvm.Cond.fieldLinkNest "Reorderium" (525 : Nat) "Reorderium$Instruction" "a" "I" "Reorderium") ∈ lw_tbl := lw_at lw_m6 209 rfl
theorem q1520 : (Jvm.Cond.fieldLinkNest "Reorderium" (528 : Nat) "Reorderium$Instruction" "b" "I" "Reorderium") ∈ lw_tbl := lw_at lw_m6 212 rfl
theorem q1523 : (Jvm.Cond.fieldLinkNest "Reorderium" (316 : Nat) "Reorderium$Instruction" "n" "I" "Reorderium") ∈ lw_tbl := lw_at lw_m6 215 rfl
theorem q1535 : (Jvm.Cond.interfaceEntry "Reorderium" (198 : Nat)) ∈ lw_tbl := lw_at lw_m6 227 rfl
theorem q1536 : (Jvm.Cond.methodLink "Reorderium" (198 : Nat) ({ cls := "java/util/List", name := "add", desc := "(Ljava/lang/Object;)Z" } : Jvm.MethodName)) ∈ lw_all := lw_g (lw_at lw_m6 228 rfl) rfl
theorem q1595 : (Jvm.Cond.instanceMethod ({ cls := "Reorderium", name := "setRegister", desc := "(II)I" } : Jvm.MethodName)) ∈ lw_all := lw_g (lw_at lw_m7 47 rfl) rfl
theorem q1596 : (Jvm.Cond.selects "Reorderium" ({ cls := "Reorderium", name := "setRegister", desc := "(II)I" } : Jvm.MethodName) ({ cls := "Reorderium", name := "setRegister", desc := "(II)I" } : Jvm.MethodName)) ∈ lw_all := lw_g (lw_at lw_m7 48 rfl) rfl
theorem q1597 : (Jvm.Cond.code ({ cls := "Reorderium", name := "setRegister", desc := "(II)I" } : Jvm.MethodName) prog_1_method_52_code (4 : Nat) (Option.some Jvm.ClassFile.FieldType.int)) ∈ lw_all := lw_g (lw_at lw_m7 49 rfl) rfl
theorem q1602 : (Jvm.Cond.instanceMethod ({ cls := "Reorderium", name := "setWord", desc := "(II)I" } : Jvm.MethodName)) ∈ lw_all := lw_g (lw_at lw_m7 54 rfl) rfl
theorem q1603 : (Jvm.Cond.selects "Reorderium" ({ cls := "Reorderium", name := "setWord", desc := "(II)I" } : Jvm.MethodName) ({ cls := "Reorderium", name := "setWord", desc := "(II)I" } : Jvm.MethodName)) ∈ lw_all := lw_g (lw_at lw_m7 55 rfl) rfl
theorem q1604 : (Jvm.Cond.code ({ cls := "Reorderium", name := "setWord", desc := "(II)I" } : Jvm.MethodName) prog_1_method_53_code (4 : Nat) (Option.some Jvm.ClassFile.FieldType.int)) ∈ lw_all := lw_g (lw_at lw_m7 56 rfl) rfl
theorem q1605 : (Jvm.Cond.methodLink "Reorderium" (253 : Nat) ({ cls := "Reorderium", name := "isAddress", desc := "(I)Z" } : Jvm.MethodName)) ∈ lw_all := lw_g (lw_at lw_m7 57 rfl) rfl
theorem q1610 : (Jvm.Cond.instanceMethod ({ cls := "Reorderium", name := "setWidth", desc := "(I)I" } : Jvm.MethodName)) ∈ lw_all := lw_g (lw_at lw_m7 62 rfl) rfl
theorem q1611 : (Jvm.Cond.selects "Reorderium" ({ cls := "Reorderium", name := "setWidth", desc := "(I)I" } : Jvm.MethodName) ({ cls := "Reorderium", name := "setWidth", desc := "(I)I" } : Jvm.MethodName)) ∈ lw_all := lw_g (lw_at lw_m7 63 rfl) rfl
theorem q1612 : (Jvm.Cond.code ({ cls := "Reorderium", name := "setWidth", desc := "(I)I" } : Jvm.MethodName) prog_1_method_54_code (3 : Nat) (Option.some Jvm.ClassFile.FieldType.int)) ∈ lw_all := lw_g (lw_at lw_m7 64 rfl) rfl
theorem q1617 : (Jvm.Cond.instanceMethod ({ cls := "Reorderium", name := "setBuffer", desc := "(I)I" } : Jvm.MethodName)) ∈ lw_all := lw_g (lw_at lw_m7 69 rfl) rfl
theorem q1618 : (Jvm.Cond.selects "Reorderium" ({ cls := "Reorderium", name := "setBuffer", desc := "(I)I" } : Jvm.MethodName) ({ cls := "Reorderium", name := "setBuffer", desc := "(I)I" } : Jvm.MethodName)) ∈ lw_all := lw_g (lw_at lw_m7 70 rfl) rfl
theorem q1619 : (Jvm.Cond.code ({ cls := "Reorderium", name := "setBuffer", desc := "(I)I" } : Jvm.MethodName) prog_1_method_55_code (3 : Nat) (Option.some Jvm.ClassFile.FieldType.int)) ∈ lw_all := lw_g (lw_at lw_m7 71 rfl) rfl
theorem q1624 : (Jvm.Cond.instanceMethod ({ cls := "Reorderium", name := "setQueue", desc := "(I)I" } : Jvm.MethodName)) ∈ lw_all := lw_g (lw_at lw_m7 76 rfl) rfl
theorem q1625 : (Jvm.Cond.selects "Reorderium" ({ cls := "Reorderium", name := "setQueue", desc := "(I)I" } : Jvm.MethodName) ({ cls := "Reorderium", name := "setQueue", desc := "(I)I" } : Jvm.MethodName)) ∈ lw_all := lw_g (lw_at lw_m7 77 rfl) rfl
theorem q1626 : (Jvm.Cond.code ({ cls := "Reorderium", name := "setQueue", desc := "(I)I" } : Jvm.MethodName) prog_1_method_56_code (3 : Nat) (Option.some Jvm.ClassFile.FieldType.int)) ∈ lw_all := lw_g (lw_at lw_m7 78 rfl) rfl
theorem q1631 : (Jvm.Cond.instanceMethod ({ cls := "Reorderium", name := "setInner", desc := "(I)I" } : Jvm.MethodName)) ∈ lw_all := lw_g (lw_at lw_m7 83 rfl) rfl
theorem q1632 : (Jvm.Cond.selects "Reorderium" ({ cls := "Reorderium", name := "setInner", desc := "(I)I" } : Jvm.MethodName) ({ cls := "Reorderium", name := "setInner", desc := "(I)I" } : Jvm.MethodName)) ∈ lw_all := lw_g (lw_at lw_m7 84 rfl) rfl
theorem q1633 : (Jvm.Cond.code ({ cls := "Reorderium", name := "setInner", desc := "(I)I" } : Jvm.MethodName) prog_1_method_57_code (3 : Nat) (Option.some Jvm.ClassFile.FieldType.int)) ∈ lw_all := lw_g (lw_at lw_m7 85 rfl) rfl
theorem q1638 : (Jvm.Cond.instanceMethod ({ cls := "Reorderium", name := "setHandlers", desc := "(II)I" } : Jvm.MethodName)) ∈ lw_all := lw_g (lw_at lw_m7 90 rfl) rfl
theorem q1639 : (Jvm.Cond.selects "Reorderium" ({ cls := "Reorderium", name := "setHandlers", desc := "(II)I" } : Jvm.MethodName) ({ cls := "Reorderium", name := "setHandlers", desc := "(II)I" } : Jvm.MethodName)) ∈ lw_all := lw_g (lw_at lw_m7 91 rfl) rfl
theorem q1640 : (Jvm.Cond.code ({ cls := "Reorderium", name := "setHandlers", desc := "(II)I" } : Jvm.MethodName) prog_1_method_58_code (4 : Nat) (Option.some Jvm.ClassFile.FieldType.int)) ∈ lw_all := lw_g (lw_at lw_m7 92 rfl) rfl
theorem q1645 : (Jvm.Cond.instanceMethod ({ cls := "Reorderium", name := "setTime", desc := "(II)I" } : Jvm.MethodName)) ∈ lw_all := lw_g (lw_at lw_m7 97 rfl) rfl
theorem q1646 : (Jvm.Cond.selects "Reorderium" ({ cls := "Reorderium", name := "setTime", desc := "(II)I" } : Jvm.MethodName) ({ cls := "Reorderium", name := "setTime", desc := "(II)I" } : Jvm.MethodName)) ∈ lw_all := lw_g (lw_at lw_m7 98 rfl) rfl
theorem q1647 : (Jvm.Cond.code ({ cls := "Reorderium", name := "setTime", desc := "(II)I" } : Jvm.MethodName) prog_1_method_59_code (4 : Nat) (Option.some Jvm.ClassFile.FieldType.int)) ∈ lw_all := lw_g (lw_at lw_m7 99 rfl) rfl
theorem q1652 : (Jvm.Cond.instanceMethod ({ cls := "Reorderium", name := "run", desc := "(I)I" } : Jvm.MethodName)) ∈ lw_all := lw_g (lw_at lw_m7 104 rfl) rfl
theorem q1653 : (Jvm.Cond.selects "Reorderium" ({ cls := "Reorderium", name := "run", desc := "(I)I" } : Jvm.MethodName) ({ cls := "Reorderium", name := "run", desc := "(I)I" } : Jvm.MethodName)) ∈ lw_all := lw_g (lw_at lw_m7 105 rfl) rfl
theorem q1654 : (Jvm.Cond.code ({ cls := "Reorderium", name := "run", desc := "(I)I" } : Jvm.MethodName) prog_1_method_61_code (4 : Nat) (Option.some Jvm.ClassFile.FieldType.int)) ∈ lw_all := lw_g (lw_at lw_m7 106 rfl) rfl
theorem q1655 : (Jvm.Cond.methodLink "Reorderium" (590 : Nat) ({ cls := "Reorderium", name := "pass", desc := "()V" } : Jvm.MethodName)) ∈ lw_all := lw_g (lw_at lw_m7 107 rfl) rfl
theorem q1656 : (Jvm.Cond.privateMethod ({ cls := "Reorderium", name := "pass", desc := "()V" } : Jvm.MethodName)) ∈ lw_tbl := lw_at lw_m7 108 rfl
theorem q1657 : (Jvm.Cond.instanceMethod ({ cls := "Reorderium", name := "pass", desc := "()V" } : Jvm.MethodName)) ∈ lw_all := lw_g (lw_at lw_m7 109 rfl) rfl
theorem q1658 : (Jvm.Cond.code ({ cls := "Reorderium", name := "pass", desc := "()V" } : Jvm.MethodName) prog_1_method_50_code (1 : Nat) (Option.none : Option Jvm.ClassFile.FieldType)) ∈ lw_all := lw_g (lw_at lw_m7 110 rfl) rfl
theorem q1659 : (Jvm.Cond.methodLink "Reorderium" (557 : Nat) ({ cls := "Reorderium", name := "answer", desc := "()V" } : Jvm.MethodName)) ∈ lw_all := lw_g (lw_at lw_m7 111 rfl) rfl
theorem q1660 : (Jvm.Cond.privateMethod ({ cls := "Reorderium", name := "answer", desc := "()V" } : Jvm.MethodName)) ∈ lw_tbl := lw_at lw_m7 112 rfl
theorem q1661 : (Jvm.Cond.instanceMethod ({ cls := "Reorderium", name := "answer", desc := "()V" } : Jvm.MethodName)) ∈ lw_all := lw_g (lw_at lw_m7 113 rfl) rfl
theorem q1662 : (Jvm.Cond.code ({ cls := "Reorderium", name := "answer", desc := "()V" } : Jvm.MethodName) prog_1_method_12_code (3 : Nat) (Option.none : Option Jvm.ClassFile.FieldType)) ∈ lw_all := lw_g (lw_at lw_m7 114 rfl) rfl
theorem q1663 : (Jvm.Cond.classLink "Reorderium" (174 : Nat) "Reorderium$Asked") ∈ lw_all := lw_g (lw_at lw_m7 115 rfl) rfl
theorem q1664 : (Jvm.Cond.interfaceEntry "Reorderium" (179 : Nat)) ∈ lw_tbl := lw_at lw_m7 116 rfl
theorem q1665 : (Jvm.Cond.methodLink "Reorderium" (179 : Nat) ({ cls := "java/util/Iterator", name := "remove", desc := "()V" } : Jvm.MethodName)) ∈ lw_all := lw_g (lw_at lw_m7 117 rfl) rfl
theorem q1753 : (Jvm.Cond.methodLink "Reorderium" (185 : Nat) ({ cls := "Reorderium", name := "come", desc := "(I)V" } : Jvm.MethodName)) ∈ lw_all := lw_g (lw_at lw_m7 205 rfl) rfl
theorem q1754 : (Jvm.Cond.privateMethod ({ cls := "Reorderium", name := "come", desc := "(I)V" } : Jvm.MethodName)) ∈ lw_tbl := lw_at lw_m7 206 rfl
theorem q1755 : (Jvm.Cond.instanceMethod ({ cls := "Reorderium", name := "come", desc := "(I)V" } : Jvm.MethodName)) ∈ lw_all := lw_g (lw_at lw_m7 207 rfl) rfl
theorem q1756 : (Jvm.Cond.code ({ cls := "Reorderium", name := "come", desc := "(I)V" } : Jvm.MethodName) prog_1_method_13_code (4 : Nat) (Option.none : Option Jvm.ClassFile.FieldType)) ∈ lw_all := lw_g (lw_at lw_m7 208 rfl) rfl
theorem q1757 : (Jvm.Cond.methodLink "Reorderium" (560 : Nat) ({ cls := "Reorderium", name := "endAll", desc := "()V" } : Jvm.MethodName)) ∈ lw_all := lw_g (lw_at lw_m7 209 rfl) rfl
theorem q1758 : (Jvm.Cond.privateMethod ({ cls := "Reorderium", name := "endAll", desc := "()V" } : Jvm.MethodName)) ∈ lw_tbl := lw_at lw_m7 210 rfl
theorem q1759 : (Jvm.Cond.instanceMethod ({ cls := "Reorderium", name := "endAll", desc := "()V" } : Jvm.MethodName)) ∈ lw_all := lw_g (lw_at lw_m7 211 rfl) rfl
theorem q1760 : (Jvm.Cond.code ({ cls := "Reorderium", name := "endAll", desc := "()V" } : Jvm.MethodName) prog_1_method_15_code (3 : Nat) (Option.none : Option Jvm.ClassFile.FieldType)) ∈ lw_all := lw_g (lw_at lw_m7 212 rfl) rfl
theorem q1761 : (Jvm.Cond.methodLink "Reorderium" (204 : Nat) ({ cls := "Reorderium", name := "ending", desc := "()Ljava/util/List;" } : Jvm.MethodName)) ∈ lw_all := lw_g (lw_at lw_m7 213 rfl) rfl
theorem q1762 : (Jvm.Cond.privateMethod ({ cls := "Reorderium", name := "ending", desc := "()Ljava/util/List;" } : Jvm.MethodName)) ∈ lw_tbl := lw_at lw_m7 214 rfl
theorem q1763 : (Jvm.Cond.instanceMethod ({ cls := "Reorderium", name := "ending", desc := "()Ljava/util/List;" } : Jvm.MethodName)) ∈ lw_all := lw_g (lw_at lw_m7 215 rfl) rfl
theorem q1764 : (Jvm.Cond.code ({ cls := "Reorderium", name := "ending", desc := "()Ljava/util/List;" } : Jvm.MethodName) prog_1_method_14_code (4 : Nat) (Option.some (Jvm.ClassFile.FieldType.object "java/util/List"))) ∈ lw_all := lw_g (lw_at lw_m7 216 rfl) rfl
theorem q1765 : (Jvm.Cond.methodLink "Reorderium" (213 : Nat) ({ cls := "Reorderium", name := "endOne", desc := "(LReorderium$Flight;)V" } : Jvm.MethodName)) ∈ lw_all := lw_g (lw_at lw_m7 217 rfl) rfl
theorem q1766 : (Jvm.Cond.privateMethod ({ cls := "Reorderium", name := "endOne", desc := "(LReorderium$Flight;)V" } : Jvm.MethodName)) ∈ lw_tbl := lw_at lw_m7 218 rfl
theorem q1767 : (Jvm.Cond.instanceMethod ({ cls := "Reorderium", name := "endOne", desc := "(LReorderium$Flight;)V" } : Jvm.MethodName)) ∈ lw_all := lw_g (lw_at lw_m7 219 rfl) rfl
theorem q1768 : (Jvm.Cond.code ({ cls := "Reorderium", name := "endOne", desc := "(LReorderium$Flight;)V" } : Jvm.MethodName) prog_1_method_16_code (3 : Nat) (Option.none : Option Jvm.ClassFile.FieldType)) ∈ lw_all := lw_g (lw_at lw_m7 220 rfl) rfl
theorem q1769 : (Jvm.Cond.methodLink "Reorderium" (224 : Nat) ({ cls := "Reorderium$Instruction", name := "hasResult", desc := "()Z" } : Jvm.MethodName)) ∈ lw_all := lw_g (lw_at lw_m7 221 rfl) rfl
theorem q1770 : (Jvm.Cond.methodLink "Reorderium" (229 : Nat) ({ cls := "Reorderium", name := "findResult", desc := "(LReorderium$Flight;)V" } : Jvm.MethodName)) ∈ lw_all := lw_g (lw_at lw_m7 222 rfl) rfl
theorem q1771 : (Jvm.Cond.privateMethod ({ cls := "Reorderium", name := "findResult", desc := "(LReorderium$Flight;)V" } : Jvm.MethodName)) ∈ lw_tbl := lw_at lw_m7 223 rfl
theorem q1772 : (Jvm.Cond.instanceMethod ({ cls := "Reorderium", name := "findResult", desc := "(LReorderium$Flight;)V" } : Jvm.MethodName)) ∈ lw_all := lw_g (lw_at lw_m7 224 rfl) rfl
theorem q1773 : (Jvm.Cond.code ({ cls := "Reorderium", name := "findResult", desc := "(LReorderium$Flight;)V" } : Jvm.MethodName) prog_1_method_17_code (4 : Nat) (Option.none : Option Jvm.ClassFile.FieldType)) ∈ lw_all := lw_g (lw_at lw_m7 225 rfl) rfl
theorem q1774 : (Jvm.Cond.methodLink "Reorderium" (267 : Nat) ({ cls := "Reorderium$Instruction", name := "traps", desc := "(I)Z" } : Jvm.MethodName)) ∈ lw_all := lw_g (lw_at lw_m7 226 rfl) rfl
theorem q1775 : (Jvm.Cond.methodLink "Reorderium" (273 : Nat) ({ cls := "Reorderium$Instruction", name := "reckon", desc := "(II)I" } : Jvm.MethodName)) ∈ lw_all := lw_g (lw_at lw_m7 227 rfl) rfl
theorem q1776 : (Jvm.Cond.methodLink "Reorderium" (232 : Nat) ({ cls := "Reorderium$Flight", name := "end", desc := "(I)V" } : Jvm.MethodName)) ∈ lw_all := lw_g (lw_at lw_m7 228 rfl) rfl
theorem q1780 : (Jvm.Cond.methodLink "Reorderium" (235 : Nat) ({ cls := "Reorderium$Instruction", name := "isStore", desc := "()Z" } : Jvm.MethodName)) ∈ lw_all := lw_g (lw_at lw_m7 232 rfl) rfl
theorem q1781 : (Jvm.Cond.methodLink "Reorderium" (238 : Nat) ({ cls := "Reorderium", name := "endStore", desc := "(LReorderium$Flight;)V" } : Jvm.MethodName)) ∈ lw_all := lw_g (lw_at lw_m7 233 rfl) rfl
theorem q1782 : (Jvm.Cond.privateMethod ({ cls := "Reorderium", name := "endStore", desc := "(LReorderium$Flight;)V" } : Jvm.MethodName)) ∈ lw_tbl := lw_at lw_m7 234 rfl
theorem q1783 : (Jvm.Cond.instanceMethod ({ cls := "Reorderium", name := "endStore", desc := "(LReorderium$Flight;)V" } : Jvm.MethodName)) ∈ lw_all := lw_g (lw_at lw_m7 235 rfl) rfl
theorem q1784 : (Jvm.Cond.code ({ cls := "Reorderium", name := "endStore", desc := "(LReorderium$Flight;)V" } : Jvm.MethodName) prog_1_method_18_code (3 : Nat) (Option.none : Option Jvm.ClassFile.FieldType)) ∈ lw_all := lw_g (lw_at lw_m7 236 rfl) rfl
theorem q1785 : (Jvm.Cond.methodLink "Reorderium" (277 : Nat) ({ cls := "Reorderium", name := "firstTooEarly", desc := "(LReorderium$Flight;)LReorderium$Flight;" } : Jvm.MethodName)) ∈ lw_all := lw_g (lw_at lw_m7 237 rfl) rfl
theorem q1786 : (Jvm.Cond.privateMethod ({ cls := "Reorderium", name := "firstTooEarly", desc := "(LReorderium$Flight;)LReorderium$Flight;" } : Jvm.MethodName)) ∈ lw_tbl := lw_at lw_m7 238 rfl
theorem q1787 : (Jvm.Cond.instanceMethod ({ cls := "Reorderium", name := "firstTooEarly", desc := "(LReorderium$Flight;)LReorderium$Flight;" } : Jvm.MethodName)) ∈ lw_all := lw_g (lw_at lw_m7 239 rfl) rfl
theorem q1788 : (Jvm.Cond.code ({ cls := "Reorderium", name := "firstTooEarly", desc := "(LReorderium$Flight;)LReorderium$Flight;" } : Jvm.MethodName) prog_1_method_19_code (4 : Nat) (Option.some (Jvm.ClassFile.FieldType.object "Reorderium$Flight"))) ∈ lw_all := lw_g (lw_at lw_m8 0 rfl) rfl
theorem q1805 : (Jvm.Cond.methodLink "Reorderium" (301 : Nat) ({ cls := "Reorderium$Flight", name := "hasBegunLoadOf", desc := "(I)Z" } : Jvm.MethodName)) ∈ lw_all := lw_g (lw_at lw_m8 17 rfl) rfl
theorem q1809 : (Jvm.Cond.methodLink "Reorderium" (290 : Nat) ({ cls := "Reorderium", name := "throwFrom", desc := "(LReorderium$Flight;Z)V" } : Jvm.MethodName)) ∈ lw_all := lw_g (lw_at lw_m8 21 rfl) rfl
theorem q1810 : (Jvm.Cond.privateMethod ({ cls := "Reorderium", name := "throwFrom", desc := "(LReorderium$Flight;Z)V" } : Jvm.MethodName)) ∈ lw_tbl := lw_at lw_m8 22 rfl
theorem q1811 : (Jvm.Cond.instanceMethod ({ cls := "Reorderium", name := "throwFrom", desc := "(LReorderium$Flight;Z)V" } : Jvm.MethodName)) ∈ lw_all := lw_g (lw_at lw_m8 23 rfl) rfl
theorem q1812 : (Jvm.Cond.code ({ cls := "Reorderium", name := "throwFrom", desc := "(LReorderium$Flight;Z)V" } : Jvm.MethodName) prog_1_method_22_code (6 : Nat) (Option.none : Option Jvm.ClassFile.FieldType)) ∈ lw_all := lw_g (lw_at lw_m8 24 rfl) rfl
theorem q1813 : (Jvm.Cond.methodLink "Reorderium" (331 : Nat) ({ cls := "java/util/LinkedList", name := "descendingIterator", desc := "()Ljava/util/Iterator;" } : Jvm.MethodName)) ∈ lw_all := lw_g (lw_at lw_m8 25 rfl) rfl
theorem q1833 : (Jvm.Cond.methodLink "Reorderium" (334 : Nat) ({ cls := "Reorderium", name := "undo", desc := "(LReorderium$Flight;)V" } : Jvm.MethodName)) ∈ lw_all := lw_g (lw_at lw_m8 45 rfl) rfl
theorem q1834 : (Jvm.Cond.privateMethod ({ cls := "Reorderium", name := "undo", desc := "(LReorderium$Flight;)V" } : Jvm.MethodName)) ∈ lw_tbl := lw_at lw_m8 46 rfl
theorem q1835 : (Jvm.Cond.instanceMethod ({ cls := "Reorderium", name := "undo", desc := "(LReorderium$Flight;)V" } : Jvm.MethodName)) ∈ lw_all := lw_g (lw_at lw_m8 47 rfl) rfl
theorem q1836 : (Jvm.Cond.code ({ cls := "Reorderium", name := "undo", desc := "(LReorderium$Flight;)V" } : Jvm.MethodName) prog_1_method_23_code (2 : Nat) (Option.none : Option Jvm.ClassFile.FieldType)) ∈ lw_all := lw_g (lw_at lw_m8 48 rfl) rfl
theorem q1837 : (Jvm.Cond.methodLink "Reorderium" (241 : Nat) ({ cls := "Reorderium", name := "endGoing", desc := "(LReorderium$Flight;)V" } : Jvm.MethodName)) ∈ lw_all := lw_g (lw_at lw_m8 49 rfl) rfl
theorem q1838 : (Jvm.Cond.privateMethod ({ cls := "Reorderium", name := "endGoing", desc := "(LReorderium$Flight;)V" } : Jvm.MethodName)) ∈ lw_tbl := lw_at lw_m8 50 rfl
theorem q1839 : (Jvm.Cond.instanceMethod ({ cls := "Reorderium", name := "endGoing", desc := "(LReorderium$Flight;)V" } : Jvm.MethodName)) ∈ lw_all := lw_g (lw_at lw_m8 51 rfl) rfl
theorem q1840 : (Jvm.Cond.code ({ cls := "Reorderium", name := "endGoing", desc := "(LReorderium$Flight;)V" } : Jvm.MethodName) prog_1_method_20_code (4 : Nat) (Option.none : Option Jvm.ClassFile.FieldType)) ∈ lw_all := lw_g (lw_at lw_m8 52 rfl) rfl
theorem q1841 : (Jvm.Cond.methodLink "Reorderium" (304 : Nat) ({ cls := "Reorderium$Instruction", name := "isIndirect", desc := "()Z" } : Jvm.MethodName)) ∈ lw_all := lw_g (lw_at lw_m8 53 rfl) rfl
theorem q1842 : (Jvm.Cond.methodLink "Reorderium" (312 : Nat) ({ cls := "Reorderium$Instruction", name := "isFulfilled", desc := "(II)Z" } : Jvm.MethodName)) ∈ lw_all := lw_g (lw_at lw_m8 54 rfl) rfl
theorem q1843 : (Jvm.Cond.methodLink "Reorderium" (217 : Nat) ({ cls := "Reorderium", name := "writeResults", desc := "()V" } : Jvm.MethodName)) ∈ lw_all := lw_g (lw_at lw_m8 55 rfl) rfl
theorem q1844 : (Jvm.Cond.privateMethod ({ cls := "Reorderium", name := "writeResults", desc := "()V" } : Jvm.MethodName)) ∈ lw_tbl := lw_at lw_m8 56 rfl
theorem q1845 : (Jvm.Cond.instanceMethod ({ cls := "Reorderium", name := "writeResults", desc := "()V" } : Jvm.MethodName)) ∈ lw_all := lw_g (lw_at lw_m8 57 rfl) rfl
theorem q1846 : (Jvm.Cond.code ({ cls := "Reorderium", name := "writeResults", desc := "()V" } : Jvm.MethodName) prog_1_method_21_code (4 : Nat) (Option.none : Option Jvm.ClassFile.FieldType)) ∈ lw_all := lw_g (lw_at lw_m8 58 rfl) rfl
theorem q1847 : (Jvm.Cond.methodLink "Reorderium" (563 : Nat) ({ cls := "Reorderium", name := "retireAll", desc := "()V" } : Jvm.MethodName)) ∈ lw_all := lw_g (lw_at lw_m8 59 rfl) rfl
theorem q1848 : (Jvm.Cond.privateMethod ({ cls := "Reorderium", name := "retireAll", desc := "()V" } : Jvm.MethodName)) ∈ lw_tbl := lw_at lw_m8 60 rfl
theorem q1849 : (Jvm.Cond.instanceMethod ({ cls := "Reorderium", name := "retireAll", desc := "()V" } : Jvm.MethodName)) ∈ lw_all := lw_g (lw_at lw_m8 61 rfl) rfl
theorem q1850 : (Jvm.Cond.code ({ cls := "Reorderium", name := "retireAll", desc := "()V" } : Jvm.MethodName) prog_1_method_29_code (5 : Nat) (Option.none : Option Jvm.ClassFile.FieldType)) ∈ lw_all := lw_g (lw_at lw_m8 62 rfl) rfl
theorem q1851 : (Jvm.Cond.methodLink "Reorderium" (375 : Nat) ({ cls := "Reorderium", name := "takeInterrupt", desc := "()V" } : Jvm.MethodName)) ∈ lw_all := lw_g (lw_at lw_m8 63 rfl) rfl
theorem q1852 : (Jvm.Cond.privateMethod ({ cls := "Reorderium", name := "takeInterrupt", desc := "()V" } : Jvm.MethodName)) ∈ lw_tbl := lw_at lw_m8 64 rfl
theorem q1853 : (Jvm.Cond.instanceMethod ({ cls := "Reorderium", name := "takeInterrupt", desc := "()V" } : Jvm.MethodName)) ∈ lw_all := lw_g (lw_at lw_m8 65 rfl) rfl
theorem q1854 : (Jvm.Cond.code ({ cls := "Reorderium", name := "takeInterrupt", desc := "()V" } : Jvm.MethodName) prog_1_method_31_code (1 : Nat) (Option.none : Option Jvm.ClassFile.FieldType)) ∈ lw_all := lw_g (lw_at lw_m8 66 rfl) rfl
theorem q1856 : (Jvm.Cond.methodLink "Reorderium" (405 : Nat) ({ cls := "Reorderium$End", name := "<init>", desc := "(IIILReorderium$Flight;)V" } : Jvm.MethodName)) ∈ lw_all := lw_g (lw_at lw_m8 68 rfl) rfl
theorem q1861 : (Jvm.Cond.fieldLinkNest "Reorderium" (600 : Nat) "Reorderium$End" "kind" "I" "Reorderium") ∈ lw_tbl := lw_at lw_m8 73 rfl
theorem q1863 : (Jvm.Cond.fieldLinkNest "Reorderium" (603 : Nat) "Reorderium$End" "place" "I" "Reorderium") ∈ lw_tbl := lw_at lw_m8 75 rfl
theorem q1865 : (Jvm.Cond.fieldLinkNest "Reorderium" (653 : Nat) "Reorderium$End" "cycle" "I" "Reorderium") ∈ lw_tbl := lw_at lw_m8 77 rfl
theorem q1867 : (Jvm.Cond.fieldLinkNest "Reorderium" (641 : Nat) "Reorderium$End" "flight" "LReorderium$Flight;" "Reorderium") ∈ lw_tbl := lw_at lw_m8 79 rfl
theorem q1877 : (Jvm.Cond.methodLink "Reorderium" (408 : Nat) ({ cls := "Reorderium", name := "throwAll", desc := "()V" } : Jvm.MethodName)) ∈ lw_all := lw_g (lw_at lw_m8 89 rfl) rfl
theorem q1878 : (Jvm.Cond.privateMethod ({ cls := "Reorderium", name := "throwAll", desc := "()V" } : Jvm.MethodName)) ∈ lw_tbl := lw_at lw_m8 90 rfl
theorem q1879 : (Jvm.Cond.instanceMethod ({ cls := "Reorderium", name := "throwAll", desc := "()V" } : Jvm.MethodName)) ∈ lw_all := lw_g (lw_at lw_m8 91 rfl) rfl
theorem q1880 : (Jvm.Cond.code ({ cls := "Reorderium", name := "throwAll", desc := "()V" } : Jvm.MethodName) prog_1_method_24_code (1 : Nat) (Option.none : Option Jvm.ClassFile.FieldType)) ∈ lw_all := lw_g (lw_at lw_m8 92 rfl) rfl
theorem q1881 : (Jvm.Cond.methodLink "Reorderium" (346 : Nat) ({ cls := "java/util/LinkedList", name := "isEmpty", desc := "()Z" } : Jvm.MethodName)) ∈ lw_all := lw_g (lw_at lw_m8 93 rfl) rfl
theorem q1888 : (Jvm.Cond.methodLink "Reorderium" (349 : Nat) ({ cls := "java/util/LinkedList", name := "getFirst", desc := "()Ljava/lang/Object;" } : Jvm.MethodName)) ∈ lw_all := lw_g (lw_at lw_m8 100 rfl) rfl
theorem q1894 : (Jvm.Cond.methodLink "Reorderium" (411 : Nat) ({ cls := "Reorderium$Handling", name := "interrupt", desc := "(I)I" } : Jvm.MethodName)) ∈ lw_all := lw_g (lw_at lw_m8 106 rfl) rfl
theorem q1895 : (Jvm.Cond.methodLink "Reorderium" (378 : Nat) ({ cls := "Reorderium", name := "lose", desc := "(C)V" } : Jvm.MethodName)) ∈ lw_all := lw_g (lw_at lw_m8 107 rfl) rfl
theorem q1896 : (Jvm.Cond.privateMethod ({ cls := "Reorderium", name := "lose", desc := "(C)V" } : Jvm.MethodName)) ∈ lw_tbl := lw_at lw_m8 108 rfl
theorem q1897 : (Jvm.Cond.instanceMethod ({ cls := "Reorderium", name := "lose", desc := "(C)V" } : Jvm.MethodName)) ∈ lw_all := lw_g (lw_at lw_m8 109 rfl) rfl
theorem q1898 : (Jvm.Cond.code ({ cls := "Reorderium", name := "lose", desc := "(C)V" } : Jvm.MethodName) prog_1_method_25_code (2 : Nat) (Option.none : Option Jvm.ClassFile.FieldType)) ∈ lw_all := lw_g (lw_at lw_m8 110 rfl) rfl
theorem q1899 : (Jvm.Cond.methodLink "Reorderium" (352 : Nat) ({ cls := "java/lang/String", name := "indexOf", desc := "(I)I" } : Jvm.MethodName)) ∈ lw_all := lw_g (lw_at lw_m8 111 rfl) rfl
theorem q1949 : (Jvm.Cond.methodLink "Reorderium" (382 : Nat) ({ cls := "Reorderium", name := "canRetire", desc := "(LReorderium$Flight;)Z" } : Jvm.MethodName)) ∈ lw_all := lw_g (lw_at lw_m8 161 rfl) rfl
theorem q1950 : (Jvm.Cond.privateMethod ({ cls := "Reorderium", name := "canRetire", desc := "(LReorderium$Flight;)Z" } : Jvm.MethodName)) ∈ lw_tbl := lw_at lw_m8 162 rfl
theorem q1951 : (Jvm.Cond.instanceMethod ({ cls := "Reorderium", name := "canRetire", desc := "(LReorderium$Flight;)Z" } : Jvm.MethodName)) ∈ lw_all := lw_g (lw_at lw_m8 163 rfl) rfl
theorem q1952 : (Jvm.Cond.code ({ cls := "Reorderium", name := "canRetire", desc := "(LReorderium$Flight;)Z" } : Jvm.MethodName) prog_1_method_28_code (2 : Nat) (Option.some Jvm.ClassFile.FieldType.boolean)) ∈ lw_all := lw_g (lw_at lw_m8 164 rfl) rfl
theorem q1953 : (Jvm.Cond.methodLink "Reorderium" (362 : Nat) ({ cls := "Reorderium$Flight", name := "isOver", desc := "()Z" } : Jvm.MethodName)) ∈ lw_all := lw_g (lw_at lw_m8 165 rfl) rfl
theorem q1957 : (Jvm.Cond.methodLink "Reorderium" (365 : Nat) ({ cls := "Reorderium", name := "lacksWord", desc := "(LReorderium$Flight;)Z" } : Jvm.MethodName)) ∈ lw_all := lw_g (lw_at lw_m8 169 rfl) rfl
theorem q1958 : (Jvm.Cond.privateMethod ({ cls := "Reorderium", name := "lacksWord", desc := "(LReorderium$Flight;)Z" } : Jvm.MethodName)) ∈ lw_tbl := lw_at lw_m8 170 rfl
theorem q1959 : (Jvm.Cond.instanceMethod ({ cls := "Reorderium", name := "lacksWord", desc := "(LReorderium$Flight;)Z" } : Jvm.MethodName)) ∈ lw_all := lw_g (lw_at lw_m8 171 rfl) rfl
theorem q1960 : (Jvm.Cond.code ({ cls := "Reorderium", name := "lacksWord", desc := "(LReorderium$Flight;)Z" } : Jvm.MethodName) prog_1_method_27_code (2 : Nat) (Option.some Jvm.ClassFile.FieldType.boolean)) ∈ lw_all := lw_g (lw_at lw_m8 172 rfl) rfl
theorem q1961 : (Jvm.Cond.methodLink "Reorderium" (359 : Nat) ({ cls := "java/util/BitSet", name := "get", desc := "(I)Z" } : Jvm.MethodName)) ∈ lw_all := lw_g (lw_at lw_m8 173 rfl) rfl
theorem q1965 : (Jvm.Cond.methodLink "Reorderium" (385 : Nat) ({ cls := "Reorderium", name := "trapOf", desc := "(LReorderium$Flight;)I" } : Jvm.MethodName)) ∈ lw_all := lw_g (lw_at lw_m8 177 rfl) rfl
theorem q1966 : (Jvm.Cond.privateMethod ({ cls := "Reorderium", name := "trapOf", desc := "(LReorderium$Flight;)I" } : Jvm.MethodName)) ∈ lw_tbl := lw_at lw_m8 178 rfl
theorem q1967 : (Jvm.Cond.instanceMethod ({ cls := "Reorderium", name := "trapOf", desc := "(LReorderium$Flight;)I" } : Jvm.MethodName)) ∈ lw_all := lw_g (lw_at lw_m8 179 rfl) rfl
theorem q1968 : (Jvm.Cond.code ({ cls := "Reorderium", name := "trapOf", desc := "(LReorderium$Flight;)I" } : Jvm.MethodName) prog_1_method_26_code (2 : Nat) (Option.some Jvm.ClassFile.FieldType.int)) ∈ lw_all := lw_g (lw_at lw_m8 180 rfl) rfl
theorem q1969 : (Jvm.Cond.methodLink "Reorderium" (389 : Nat) ({ cls := "Reorderium", name := "retire", desc := "(LReorderium$Flight;)V" } : Jvm.MethodName)) ∈ lw_all := lw_g (lw_at lw_m8 181 rfl) rfl
theorem q1970 : (Jvm.Cond.privateMethod ({ cls := "Reorderium", name := "retire", desc := "(LReorderium$Flight;)V" } : Jvm.MethodName)) ∈ lw_tbl := lw_at lw_m8 182 rfl
theorem q1971 : (Jvm.Cond.instanceMethod ({ cls := "Reorderium", name := "retire", desc := "(LReorderium$Flight;)V" } : Jvm.MethodName)) ∈ lw_all := lw_g (lw_at lw_m8 183 rfl) rfl
theorem q1972 : (Jvm.Cond.code ({ cls := "Reorderium", name := "retire", desc := "(LReorderium$Flight;)V" } : Jvm.MethodName) prog_1_method_33_code (3 : Nat) (Option.none : Option Jvm.ClassFile.FieldType)) ∈ lw_all := lw_g (lw_at lw_m8 184 rfl) rfl
theorem q1973 : (Jvm.Cond.methodLink "Reorderium" (419 : Nat) ({ cls := "java/util/LinkedList", name := "removeFirst", desc := "()Ljava/lang/Object;" } : Jvm.MethodName)) ∈ lw_all := lw_g (lw_at lw_m8 185 rfl) rfl
theorem q1981 : (Jvm.Cond.methodLink "Reorderium" (422 : Nat) ({ cls := "Reorderium$Instruction", name := "stored", desc := "(II)I" } : Jvm.MethodName)) ∈ lw_all := lw_g (lw_at lw_m8 193 rfl) rfl
theorem q1982 : (Jvm.Cond.methodLink "Reorderium" (425 : Nat) ({ cls := "Reorderium", name := "learn", desc := "(LReorderium$Flight;)V" } : Jvm.MethodName)) ∈ lw_all := lw_g (lw_at lw_m8 194 rfl) rfl
theorem q1983 : (Jvm.Cond.privateMethod ({ cls := "Reorderium", name := "learn", desc := "(LReorderium$Flight;)V" } : Jvm.MethodName)) ∈ lw_tbl := lw_at lw_m8 195 rfl
theorem q1984 : (Jvm.Cond.instanceMethod ({ cls := "Reorderium", name := "learn", desc := "(LReorderium$Flight;)V" } : Jvm.MethodName)) ∈ lw_all := lw_g (lw_at lw_m8 196 rfl) rfl
theorem q1985 : (Jvm.Cond.code ({ cls := "Reorderium", name := "learn", desc := "(LReorderium$Flight;)V" } : Jvm.MethodName) prog_1_method_34_code (5 : Nat) (Option.none : Option Jvm.ClassFile.FieldType)) ∈ lw_all := lw_g (lw_at lw_m8 197 rfl) rfl
theorem q1986 : (Jvm.Cond.methodLink "Reorderium" (431 : Nat) ({ cls := "Reorderium$Instruction", name := "isCondition", desc := "()Z" } : Jvm.MethodName)) ∈ lw_all := lw_g (lw_at lw_m8 198 rfl) rfl
theorem q1987 : (Jvm.Cond.methodLink "Reorderium" (434 : Nat) ({ cls := "java/lang/Math", name := "min", desc := "(II)I" } : Jvm.MethodName)) ∈ lw_all := lw_g (lw_at lw_m8 199 rfl) rfl
theorem q1988 : (Jvm.Cond.methodLink "Reorderium" (439 : Nat) ({ cls := "java/lang/Math", name := "max", desc := "(II)I" } : Jvm.MethodName)) ∈ lw_all := lw_g (lw_at lw_m8 200 rfl) rfl
theorem q1989 : (Jvm.Cond.methodLink "Reorderium" (428 : Nat) ({ cls := "Reorderium$Handling", name := "goBack", desc := "()I" } : Jvm.MethodName)) ∈ lw_all := lw_g (lw_at lw_m8 201 rfl) rfl
theorem q1990 : (Jvm.Cond.methodLink "Reorderium" (392 : Nat) ({ cls := "Reorderium", name := "takeTrap", desc := "(LReorderium$Flight;I)V" } : Jvm.MethodName)) ∈ lw_all := lw_g (lw_at lw_m8 202 rfl) rfl
theorem q1991 : (Jvm.Cond.privateMethod ({ cls := "Reorderium", name := "takeTrap", desc := "(LReorderium$Flight;I)V" } : Jvm.MethodName)) ∈ lw_tbl := lw_at lw_m8 203 rfl
theorem q1992 : (Jvm.Cond.instanceMethod ({ cls := "Reorderium", name := "takeTrap", desc := "(LReorderium$Flight;I)V" } : Jvm.MethodName)) ∈ lw_all := lw_g (lw_at lw_m8 204 rfl) rfl
theorem q1993 : (Jvm.Cond.code ({ cls := "Reorderium", name := "takeTrap", desc := "(LReorderium$Flight;I)V" } : Jvm.MethodName) prog_1_method_32_code (3 : Nat) (Option.none : Option Jvm.ClassFile.FieldType)) ∈ lw_all := lw_g (lw_at lw_m8 205 rfl) rfl
theorem q1994 : (Jvm.Cond.methodLink "Reorderium" (414 : Nat) ({ cls := "Reorderium$Handling", name := "trap", desc := "(I)I" } : Jvm.MethodName)) ∈ lw_all := lw_g (lw_at lw_m8 206 rfl) rfl
theorem q1995 : (Jvm.Cond.methodLink "Reorderium" (396 : Nat) ({ cls := "Reorderium", name := "reasonNow", desc := "()C" } : Jvm.MethodName)) ∈ lw_all := lw_g (lw_at lw_m8 207 rfl) rfl
theorem q1996 : (Jvm.Cond.privateMethod ({ cls := "Reorderium", name := "reasonNow", desc := "()C" } : Jvm.MethodName)) ∈ lw_tbl := lw_at lw_m8 208 rfl
theorem q1997 : (Jvm.Cond.instanceMethod ({ cls := "Reorderium", name := "reasonNow", desc := "()C" } : Jvm.MethodName)) ∈ lw_all := lw_g (lw_at lw_m8 209 rfl) rfl
theorem q1998 : (Jvm.Cond.code ({ cls := "Reorderium", name := "reasonNow", desc := "()C" } : Jvm.MethodName) prog_1_method_30_code (2 : Nat) (Option.some Jvm.ClassFile.FieldType.char)) ∈ lw_all := lw_g (lw_at lw_m8 210 rfl) rfl
theorem q1999 : (Jvm.Cond.methodLink "Reorderium" (566 : Nat) ({ cls := "Reorderium", name := "beginAll", desc := "()V" } : Jvm.MethodName)) ∈ lw_all := lw_g (lw_at lw_m8 211 rfl) rfl
theorem q2000 : (Jvm.Cond.privateMethod ({ cls := "Reorderium", name := "beginAll", desc := "()V" } : Jvm.MethodName)) ∈ lw_tbl := lw_at lw_m8 212 rfl
theorem q2001 : (Jvm.Cond.instanceMethod ({ cls := "Reorderium", name := "beginAll", desc := "()V" } : Jvm.MethodName)) ∈ lw_all := lw_g (lw_at lw_m8 213 rfl) rfl
theorem q2002 : (Jvm.Cond.code ({ cls := "Reorderium", name := "beginAll", desc := "()V" } : Jvm.MethodName) prog_1_method_36_code (5 : Nat) (Option.none : Option Jvm.ClassFile.FieldType)) ∈ lw_all := lw_g (lw_at lw_m8 214 rfl) rfl
theorem q2003 : (Jvm.Cond.classLink "Reorderium" (442 : Nat) "Reorderium$Units") ∈ lw_all := lw_g (lw_at lw_m8 215 rfl) rfl
theorem q2005 : (Jvm.Cond.methodLink "Reorderium" (444 : Nat) ({ cls := "Reorderium", name := "isDividing", desc := "()Z" } : Jvm.MethodName)) ∈ lw_all := lw_g (lw_at lw_m8 217 rfl) rfl
theorem q2006 : (Jvm.Cond.privateMethod ({ cls := "Reorderium", name := "isDividing", desc := "()Z" } : Jvm.MethodName)) ∈ lw_tbl := lw_at lw_m8 218 rfl
theorem q2007 : (Jvm.Cond.instanceMethod ({ cls := "Reorderium", name := "isDividing", desc := "()Z" } : Jvm.MethodName)) ∈ lw_all := lw_g (lw_at lw_m8 219 rfl) rfl
theorem q2008 : (Jvm.Cond.code ({ cls := "Reorderium", name := "isDividing", desc := "()Z" } : Jvm.MethodName) prog_1_method_35_code (4 : Nat) (Option.some Jvm.ClassFile.FieldType.boolean)) ∈ lw_all := lw_g (lw_at lw_m8 220 rfl) rfl
theorem q2009 : (Jvm.Cond.methodLink "Reorderium" (447 : Nat) ({ cls := "Reorderium$Units", name := "<init>", desc := "(Z)V" } : Jvm.MethodName)) ∈ lw_all := lw_g (lw_at lw_m8 221 rfl) rfl
theorem q2026 : (Jvm.Cond.methodLink "Reorderium" (449 : Nat) ({ cls := "Reorderium$Units", name := "has", desc := "(I)Z" } : Jvm.MethodName)) ∈ lw_all := lw_g (lw_at lw_m8 238 rfl) rfl
theorem q2035 : (Jvm.Cond.methodLink "Reorderium" (452 : Nat) ({ cls := "Reorderium", name := "hasOperands", desc := "(LReorderium$Flight;)Z" } : Jvm.MethodName)) ∈ lw_all := lw_g (lw_at lw_m9 7 rfl) rfl
theorem q2036 : (Jvm.Cond.privateMethod ({ cls := "Reorderium", name := "hasOperands", desc := "(LReorderium$Flight;)Z" } : Jvm.MethodName)) ∈ lw_tbl := lw_at lw_m9 8 rfl
theorem q2037 : (Jvm.Cond.instanceMethod ({ cls := "Reorderium", name := "hasOperands", desc := "(LReorderium$Flight;)Z" } : Jvm.MethodName)) ∈ lw_all := lw_g (lw_at lw_m9 9 rfl) rfl
theorem q2038 : (Jvm.Cond.code ({ cls := "Reorderium", name := "hasOperands", desc := "(LReorderium$Flight;)Z" } : Jvm.MethodName) prog_1_method_37_code (4 : Nat) (Option.some Jvm.ClassFile.FieldType.boolean)) ∈ lw_all := lw_g (lw_at lw_m9 10 rfl) rfl
theorem q2039 : (Jvm.Cond.methodLink "Reorderium" (461 : Nat) ({ cls := "Reorderium$Instruction", name := "needsA", desc := "()Z" } : Jvm.MethodName)) ∈ lw_all := lw_g (lw_at lw_m9 11 rfl) rfl
theorem q2048 : (Jvm.Cond.methodLink "Reorderium" (464 : Nat) ({ cls := "Reorderium$Instruction", name := "needsBToBegin", desc := "()Z" } : Jvm.MethodName)) ∈ lw_all := lw_g (lw_at lw_m9 20 rfl) rfl
theorem q2054 : (Jvm.Cond.methodLink "Reorderium" (455 : Nat) ({ cls := "Reorderium", name := "begin", desc := "(LReorderium$Flight;)Z" } : Jvm.MethodName)) ∈ lw_all := lw_g (lw_at lw_m9 26 rfl) rfl
theorem q2055 : (Jvm.Cond.privateMethod ({ cls := "Reorderium", name := "begin", desc := "(LReorderium$Flight;)Z" } : Jvm.MethodName)) ∈ lw_tbl := lw_at lw_m9 27 rfl
theorem q2056 : (Jvm.Cond.instanceMethod ({ cls := "Reorderium", name := "begin", desc := "(LReorderium$Flight;)Z" } : Jvm.MethodName)) ∈ lw_all := lw_g (lw_at lw_m9 28 rfl) rfl
theorem q2057 : (Jvm.Cond.code ({ cls := "Reorderium", name := "begin", desc := "(LReorderium$Flight;)Z" } : Jvm.MethodName) prog_1_method_38_code (3 : Nat) (Option.some Jvm.ClassFile.FieldType.boolean)) ∈ lw_all := lw_g (lw_at lw_m9 29 rfl) rfl
theorem q2058 : (Jvm.Cond.methodLink "Reorderium" (467 : Nat) ({ cls := "Reorderium$Instruction", name := "isForMemory", desc := "()Z" } : Jvm.MethodName)) ∈ lw_all := lw_g (lw_at lw_m9 30 rfl) rfl
theorem q2059 : (Jvm.Cond.methodLink "Reorderium" (470 : Nat) ({ cls := "Reorderium", name := "beginLoad", desc := "(LReorderium$Flight;)Z" } : Jvm.MethodName)) ∈ lw_all := lw_g (lw_at lw_m9 31 rfl) rfl
theorem q2060 : (Jvm.Cond.privateMethod ({ cls := "Reorderium", name := "beginLoad", desc := "(LReorderium$Flight;)Z" } : Jvm.MethodName)) ∈ lw_tbl := lw_at lw_m9 32 rfl
theorem q2061 : (Jvm.Cond.instanceMethod ({ cls := "Reorderium", name := "beginLoad", desc := "(LReorderium$Flight;)Z" } : Jvm.MethodName)) ∈ lw_all := lw_g (lw_at lw_m9 33 rfl) rfl
theorem q2062 : (Jvm.Cond.code ({ cls := "Reorderium", name := "beginLoad", desc := "(LReorderium$Flight;)Z" } : Jvm.MethodName) prog_1_method_39_code (6 : Nat) (Option.some Jvm.ClassFile.FieldType.boolean)) ∈ lw_all := lw_g (lw_at lw_m9 34 rfl) rfl
theorem q2063 : (Jvm.Cond.methodLink "Reorderium" (476 : Nat) ({ cls := "Reorderium$Flight", name := "isEndedStore", desc := "()Z" } : Jvm.MethodName)) ∈ lw_all := lw_g (lw_at lw_m9 35 rfl) rfl
theorem q2069 : (Jvm.Cond.methodLink "Reorderium" (479 : Nat) ({ cls := "Reorderium", name := "readLine", desc := "(LReorderium$Flight;)Z" } : Jvm.MethodName)) ∈ lw_all := lw_g (lw_at lw_m9 41 rfl) rfl
theorem q2070 : (Jvm.Cond.privateMethod ({ cls := "Reorderium", name := "readLine", desc := "(LReorderium$Flight;)Z" } : Jvm.MethodName)) ∈ lw_tbl := lw_at lw_m9 42 rfl
theorem q2071 : (Jvm.Cond.instanceMethod ({ cls := "Reorderium", name := "readLine", desc := "(LReorderium$Flight;)Z" } : Jvm.MethodName)) ∈ lw_all := lw_g (lw_at lw_m9 43 rfl) rfl
theorem q2072 : (Jvm.Cond.code ({ cls := "Reorderium", name := "readLine", desc := "(LReorderium$Flight;)Z" } : Jvm.MethodName) prog_1_method_42_code (3 : Nat) (Option.some Jvm.ClassFile.FieldType.boolean)) ∈ lw_all := lw_g (lw_at lw_m9 44 rfl) rfl
theorem q2073 : (Jvm.Cond.methodLink "Reorderium" (473 : Nat) ({ cls := "Reorderium$Flight", name := "begin", desc := "(II)V" } : Jvm.MethodName)) ∈ lw_all := lw_g (lw_at lw_m9 45 rfl) rfl
theorem q2077 : (Jvm.Cond.methodLink "Reorderium" (493 : Nat) ({ cls := "Reorderium", name := "isAskedFor", desc := "(I)Z" } : Jvm.MethodName)) ∈ lw_all := lw_g (lw_at lw_m9 49 rfl) rfl
theorem q2078 : (Jvm.Cond.privateMethod ({ cls := "Reorderium", name := "isAskedFor", desc := "(I)Z" } : Jvm.MethodName)) ∈ lw_tbl := lw_at lw_m9 50 rfl
theorem q2079 : (Jvm.Cond.instanceMethod ({ cls := "Reorderium", name := "isAskedFor", desc := "(I)Z" } : Jvm.MethodName)) ∈ lw_all := lw_g (lw_at lw_m9 51 rfl) rfl
theorem q2080 : (Jvm.Cond.code ({ cls := "Reorderium", name := "isAskedFor", desc := "(I)Z" } : Jvm.MethodName) prog_1_method_41_code (5 : Nat) (Option.some Jvm.ClassFile.FieldType.boolean)) ∈ lw_all := lw_g (lw_at lw_m9 52 rfl) rfl
theorem q2081 : (Jvm.Cond.constantLong "Reorderium" (499 : Nat) (1000 : Int64)) ∈ lw_all := lw_g (lw_at lw_m9 53 rfl) rfl
theorem q2083 : (Jvm.Cond.methodLink "Reorderium" (501 : Nat) ({ cls := "Reorderium$Asked", name := "<init>", desc := "(II)V" } : Jvm.MethodName)) ∈ lw_all := lw_g (lw_at lw_m9 55 rfl) rfl
theorem q2088 : (Jvm.Cond.fieldLinkNest "Reorderium" (182 : Nat) "Reorderium$Asked" "line" "I" "Reorderium") ∈ lw_tbl := lw_at lw_m9 60 rfl
theorem q2090 : (Jvm.Cond.fieldLinkNest "Reorderium" (176 : Nat) "Reorderium$Asked" "comesIn" "I" "Reorderium") ∈ lw_tbl := lw_at lw_m9 62 rfl
theorem q2096 : (Jvm.Cond.methodLink "Reorderium" (503 : Nat) ({ cls := "java/util/LinkedList", name := "addLast", desc := "(Ljava/lang/Object;)V" } : Jvm.MethodName)) ∈ lw_all := lw_g (lw_at lw_m9 68 rfl) rfl
theorem q2100 : (Jvm.Cond.methodLink "Reorderium" (504 : Nat) ({ cls := "Reorderium$Flight", name := "waitFor", desc := "(II)V" } : Jvm.MethodName)) ∈ lw_all := lw_g (lw_at lw_m9 72 rfl) rfl
theorem q2104 : (Jvm.Cond.methodLink "Reorderium" (482 : Nat) ({ cls := "Reorderium", name := "takeFrom", desc := "(LReorderium$Flight;LReorderium$Flight;)Z" } : Jvm.MethodName)) ∈ lw_all := lw_g (lw_at lw_m9 76 rfl) rfl
theorem q2105 : (Jvm.Cond.privateMethod ({ cls := "Reorderium", name := "takeFrom", desc := "(LReorderium$Flight;LReorderium$Flight;)Z" } : Jvm.MethodName)) ∈ lw_tbl := lw_at lw_m9 77 rfl
theorem q2106 : (Jvm.Cond.instanceMethod ({ cls := "Reorderium", name := "takeFrom", desc := "(LReorderium$Flight;LReorderium$Flight;)Z" } : Jvm.MethodName)) ∈ lw_all := lw_g (lw_at lw_m9 78 rfl) rfl
theorem q2107 : (Jvm.Cond.code ({ cls := "Reorderium", name := "takeFrom", desc := "(LReorderium$Flight;LReorderium$Flight;)Z" } : Jvm.MethodName) prog_1_method_40_code (3 : Nat) (Option.some Jvm.ClassFile.FieldType.boolean)) ∈ lw_all := lw_g (lw_at lw_m9 79 rfl) rfl
theorem q2108 : (Jvm.Cond.methodLink "Reorderium" (458 : Nat) ({ cls := "Reorderium$Units", name := "use", desc := "(I)V" } : Jvm.MethodName)) ∈ lw_all := lw_g (lw_at lw_m9 80 rfl) rfl
theorem q2112 : (Jvm.Cond.methodLink "Reorderium" (569 : Nat) ({ cls := "Reorderium", name := "renameAll", desc := "()V" } : Jvm.MethodName)) ∈ lw_all := lw_g (lw_at lw_m9 84 rfl) rfl
theorem q2113 : (Jvm.Cond.privateMethod ({ cls := "Reorderium", name := "renameAll", desc := "()V" } : Jvm.MethodName)) ∈ lw_tbl := lw_at lw_m9 85 rfl
theorem q2114 : (Jvm.Cond.instanceMethod ({ cls := "Reorderium", name := "renameAll", desc := "()V" } : Jvm.MethodName)) ∈ lw_all := lw_g (lw_at lw_m9 86 rfl) rfl
theorem q2115 : (Jvm.Cond.code ({ cls := "Reorderium", name := "renameAll", desc := "()V" } : Jvm.MethodName) prog_1_method_44_code (2 : Nat) (Option.none : Option Jvm.ClassFile.FieldType)) ∈ lw_all := lw_g (lw_at lw_m9 87 rfl) rfl
theorem q2116 : (Jvm.Cond.methodLink "Reorderium" (507 : Nat) ({ cls := "java/util/ArrayDeque", name := "isEmpty", desc := "()Z" } : Jvm.MethodName)) ∈ lw_all := lw_g (lw_at lw_m9 88 rfl) rfl
theorem q2120 : (Jvm.Cond.methodLink "Reorderium" (514 : Nat) ({ cls := "java/util/ArrayDeque", name := "getFirst", desc := "()Ljava/lang/Object;" } : Jvm.MethodName)) ∈ lw_all := lw_g (lw_at lw_m9 92 rfl) rfl
theorem q2129 : (Jvm.Cond.methodLink "Reorderium" (515 : Nat) ({ cls := "Reorderium", name := "canRename", desc := "(LReorderium$Flight;)Z" } : Jvm.MethodName)) ∈ lw_all := lw_g (lw_at lw_m9 101 rfl) rfl
theorem q2130 : (Jvm.Cond.privateMethod ({ cls := "Reorderium", name := "canRename", desc := "(LReorderium$Flight;)Z" } : Jvm.MethodName)) ∈ lw_tbl := lw_at lw_m9 102 rfl
theorem q2131 : (Jvm.Cond.instanceMethod ({ cls := "Reorderium", name := "canRename", desc := "(LReorderium$Flight;)Z" } : Jvm.MethodName)) ∈ lw_all := lw_g (lw_at lw_m9 103 rfl) rfl
theorem q2132 : (Jvm.Cond.code ({ cls := "Reorderium", name := "canRename", desc := "(LReorderium$Flight;)Z" } : Jvm.MethodName) prog_1_method_43_code (3 : Nat) (Option.some Jvm.ClassFile.FieldType.boolean)) ∈ lw_all := lw_g (lw_at lw_m9 104 rfl) rfl
theorem q2133 : (Jvm.Cond.methodLink "Reorderium" (508 : Nat) ({ cls := "Reorderium$Instruction", name := "isForQueue", desc := "()Z" } : Jvm.MethodName)) ∈ lw_all := lw_g (lw_at lw_m9 105 rfl) rfl
theorem q2134 : (Jvm.Cond.methodLink "Reorderium" (511 : Nat) ({ cls := "Reorderium$Instruction", name := "standsAlone", desc := "()Z" } : Jvm.MethodName)) ∈ lw_all := lw_g (lw_at lw_m9 106 rfl) rfl
theorem q2138 : (Jvm.Cond.methodLink "Reorderium" (518 : Nat) ({ cls := "java/util/ArrayDeque", name := "removeFirst", desc := "()Ljava/lang/Object;" } : Jvm.MethodName)) ∈ lw_all := lw_g (lw_at lw_m9 110 rfl) rfl
theorem q2146 : (Jvm.Cond.methodLink "Reorderium" (519 : Nat) ({ cls := "Reorderium", name := "rename", desc := "(LReorderium$Flight;)V" } : Jvm.MethodName)) ∈ lw_all := lw_g (lw_at lw_m9 118 rfl) rfl
theorem q2147 : (Jvm.Cond.privateMethod ({ cls := "Reorderium", name := "rename", desc := "(LReorderium$Flight;)V" } : Jvm.MethodName)) ∈ lw_tbl := lw_at lw_m9 119 rfl
theorem q2148 : (Jvm.Cond.instanceMethod ({ cls := "Reorderium", name := "rename", desc := "(LReorderium$Flight;)V" } : Jvm.MethodName)) ∈ lw_all := lw_g (lw_at lw_m9 120 rfl) rfl
theorem q2149 : (Jvm.Cond.code ({ cls := "Reorderium", name := "rename", desc := "(LReorderium$Flight;)V" } : Jvm.MethodName) prog_1_method_45_code (3 : Nat) (Option.none : Option Jvm.ClassFile.FieldType)) ∈ lw_all := lw_g (lw_at lw_m9 121 rfl) rfl
theorem q2150 : (Jvm.Cond.methodLink "Reorderium" (534 : Nat) ({ cls := "java/util/BitSet", name := "clear", desc := "(I)V" } : Jvm.MethodName)) ∈ lw_all := lw_g (lw_at lw_m9 122 rfl) rfl
theorem q2159 : (Jvm.Cond.methodLink "Reorderium" (572 : Nat) ({ cls := "Reorderium", name := "fetchAll", desc := "()V" } : Jvm.MethodName)) ∈ lw_all := lw_g (lw_at lw_m9 131 rfl) rfl
theorem q2160 : (Jvm.Cond.privateMethod ({ cls := "Reorderium", name := "fetchAll", desc := "()V" } : Jvm.MethodName)) ∈ lw_tbl := lw_at lw_m9 132 rfl
theorem q2161 : (Jvm.Cond.instanceMethod ({ cls := "Reorderium", name := "fetchAll", desc := "()V" } : Jvm.MethodName)) ∈ lw_all := lw_g (lw_at lw_m9 133 rfl) rfl
theorem q2162 : (Jvm.Cond.code ({ cls := "Reorderium", name := "fetchAll", desc := "()V" } : Jvm.MethodName) prog_1_method_49_code (7 : Nat) (Option.none : Option Jvm.ClassFile.FieldType)) ∈ lw_all := lw_g (lw_at lw_m9 134 rfl) rfl
theorem q2163 : (Jvm.Cond.interfaceEntry "Reorderium" (544 : Nat)) ∈ lw_tbl := lw_at lw_m9 135 rfl
theorem q2164 : (Jvm.Cond.methodLink "Reorderium" (544 : Nat) ({ cls := "java/util/List", name := "get", desc := "(I)Ljava/lang/Object;" } : Jvm.MethodName)) ∈ lw_all := lw_g (lw_at lw_m9 136 rfl) rfl
theorem q2166 : (Jvm.Cond.methodLink "Reorderium" (550 : Nat) ({ cls := "Reorderium$Flight", name := "<init>", desc := "(LReorderium$Instruction;IIJ[I)V" } : Jvm.MethodName)) ∈ lw_all := lw_g (lw_at lw_m9 138 rfl) rfl
theorem q2171 : (Jvm.Cond.fieldLinkNest "Reorderium" (220 : Nat) "Reorderium$Flight" "instruction" "LReorderium$Instruction;" "Reorderium") ∈ lw_tbl := lw_at lw_m9 143 rfl
theorem q2173 : (Jvm.Cond.fieldLinkNest "Reorderium" (284 : Nat) "Reorderium$Flight" "place" "I" "Reorderium") ∈ lw_tbl := lw_at lw_m9 145 rfl
theorem q2175 : (Jvm.Cond.fieldLinkNest "Reorderium" (647 : Nat) "Reorderium$Flight" "fetchedIn" "I" "Reorderium") ∈ lw_tbl := lw_at lw_m9 147 rfl
theorem q2178 : (Jvm.Cond.fieldLinkNest "Reorderium" (287 : Nat) "Reorderium$Flight" "returnsBefore" "[I" "Reorderium") ∈ lw_tbl := lw_at lw_m9 150 rfl
theorem q2179 : (Jvm.Cond.fieldLinkNest "Reorderium" (325 : Nat) "Reorderium$Flight" "returnsThen" "[I" "Reorderium") ∈ lw_tbl := lw_at lw_m9 151 rfl
theorem q2180 : (Jvm.Cond.fieldLinkNest "Reorderium" (319 : Nat) "Reorderium$Flight" "guess" "I" "Reorderium") ∈ lw_tbl := lw_at lw_m9 152 rfl
theorem q2182 : (Jvm.Cond.fieldLinkNest "Reorderium" (522 : Nat) "Reorderium$Flight" "renamedIn" "I" "Reorderium") ∈ lw_tbl := lw_at lw_m9 154 rfl
theorem q2184 : (Jvm.Cond.fieldLinkNest "Reorderium" (644 : Nat) "Reorderium$Flight" "begunIn" "I" "Reorderium") ∈ lw_tbl := lw_at lw_m9 156 rfl
theorem q2186 : (Jvm.Cond.fieldLinkNest "Reorderium" (650 : Nat) "Reorderium$Flight" "endedIn" "I" "Reorderium") ∈ lw_tbl := lw_at lw_m9 158 rfl
theorem q2187 : (Jvm.Cond.fieldLinkNest "Reorderium" (270 : Nat) "Reorderium$Flight" "innerA" "I" "Reorderium") ∈ lw_tbl := lw_at lw_m9 159 rfl
theorem q2188 : (Jvm.Cond.fieldLinkNest "Reorderium" (244 : Nat) "Reorderium$Flight" "innerB" "I" "Reorderium") ∈ lw_tbl := lw_at lw_m9 160 rfl
theorem q2190 : (Jvm.Cond.fieldLinkNest "Reorderium" (328 : Nat) "Reorderium$Flight" "innerD" "I" "Reorderium") ∈ lw_tbl := lw_at lw_m9 162 rfl
theorem q2192 : (Jvm.Cond.fieldLinkNest "Reorderium" (343 : Nat) "Reorderium$Flight" "innerBefore" "I" "Reorderium") ∈ lw_tbl := lw_at lw_m9 164 rfl
theorem q2194 : (Jvm.Cond.fieldLinkNest "Reorderium" (190 : Nat) "Reorderium$Flight" "stage" "C" "Reorderium") ∈ lw_tbl := lw_at lw_m9 166 rfl
theorem q2196 : (Jvm.Cond.fieldLinkNest "Reorderium" (195 : Nat) "Reorderium$Flight" "endsIn" "I" "Reorderium") ∈ lw_tbl := lw_at lw_m9 168 rfl
theorem q2198 : (Jvm.Cond.fieldLinkNest "Reorderium" (257 : Nat) "Reorderium$Flight" "trap" "I" "Reorderium") ∈ lw_tbl := lw_at lw_m9 170 rfl
theorem q2200 : (Jvm.Cond.fieldLinkNest "Reorderium" (250 : Nat) "Reorderium$Flight" "address" "I" "Reorderium") ∈ lw_tbl := lw_at lw_m9 172 rfl
theorem q2201 : (Jvm.Cond.fieldLinkNest "Reorderium" (264 : Nat) "Reorderium$Flight" "value" "I" "Reorderium") ∈ lw_tbl := lw_at lw_m9 173 rfl
theorem q2203 : (Jvm.Cond.fieldLinkNest "Reorderium" (310 : Nat) "Reorderium$Flight" "next" "I" "Reorderium") ∈ lw_tbl := lw_at lw_m9 175 rfl
theorem q2205 : (Jvm.Cond.fieldLinkNest "Reorderium" (194 : Nat) "Reorderium$Flight" "line" "I" "Reorderium") ∈ lw_tbl := lw_at lw_m9 177 rfl
theorem q2206 : (Jvm.Cond.fieldLinkNest "Reorderium" (260 : Nat) "Reorderium$Flight" "source" "LReorderium$Flight;" "Reorderium") ∈ lw_tbl := lw_at lw_m9 178 rfl
theorem q2207 : (Jvm.Cond.fieldLinkNest "Reorderium" (209 : Nat) "Reorderium$Flight" "isThrown" "Z" "Reorderium") ∈ lw_tbl := lw_at lw_m9 179 rfl
theorem q2254 : (Jvm.Cond.methodLink "Reorderium" (553 : Nat) ({ cls := "Reorderium", name := "guessFor", desc := "(LReorderium$Instruction;I)I" } : Jvm.MethodName)) ∈ lw_all := lw_g (lw_at lw_m9 226 rfl) rfl
theorem q2255 : (Jvm.Cond.privateMethod ({ cls := "Reorderium", name := "guessFor", desc := "(LReorderium$Instruction;I)I" } : Jvm.MethodName)) ∈ lw_tbl := lw_at lw_m9 227 rfl
theorem q2256 : (Jvm.Cond.instanceMethod ({ cls := "Reorderium", name := "guessFor", desc := "(LReorderium$Instruction;I)I" } : Jvm.MethodName)) ∈ lw_all := lw_g (lw_at lw_m9 228 rfl) rfl
theorem q2257 : (Jvm.Cond.code ({ cls := "Reorderium", name := "guessFor", desc := "(LReorderium$Instruction;I)I" } : Jvm.MethodName) prog_1_method_48_code (5 : Nat) (Option.some Jvm.ClassFile.FieldType.int)) ∈ lw_all := lw_g (lw_at lw_m9 229 rfl) rfl
theorem q2258 : (Jvm.Cond.methodLink "Reorderium" (536 : Nat) ({ cls := "Reorderium", name := "push", desc := "(I)V" } : Jvm.MethodName)) ∈ lw_all := lw_g (lw_at lw_m9 230 rfl) rfl
theorem q2259 : (Jvm.Cond.privateMethod ({ cls := "Reorderium", name := "push", desc := "(I)V" } : Jvm.MethodName)) ∈ lw_tbl := lw_at lw_m9 231 rfl
theorem q2260 : (Jvm.Cond.instanceMethod ({ cls := "Reorderium", name := "push", desc := "(I)V" } : Jvm.MethodName)) ∈ lw_all := lw_g (lw_at lw_m9 232 rfl) rfl
theorem q2261 : (Jvm.Cond.code ({ cls := "Reorderium", name := "push", desc := "(I)V" } : Jvm.MethodName) prog_1_method_46_code (5 : Nat) (Option.none : Option Jvm.ClassFile.FieldType)) ∈ lw_all := lw_g (lw_at lw_m9 233 rfl) rfl
theorem q2262 : (Jvm.Cond.methodLink "Reorderium" (539 : Nat) ({ cls := "Reorderium", name := "pop", desc := "(I)I" } : Jvm.MethodName)) ∈ lw_all := lw_g (lw_at lw_m9 234 rfl) rfl
theorem q2263 : (Jvm.Cond.privateMethod ({ cls := "Reorderium", name := "pop", desc := "(I)I" } : Jvm.MethodName)) ∈ lw_tbl := lw_at lw_m9 235 rfl
theorem q2264 : (Jvm.Cond.instanceMethod ({ cls := "Reorderium", name := "pop", desc := "(I)I" } : Jvm.MethodName)) ∈ lw_all := lw_g (lw_at lw_m9 236 rfl) rfl
theorem q2265 : (Jvm.Cond.code ({ cls := "Reorderium", name := "pop", desc := "(I)I" } : Jvm.MethodName) prog_1_method_47_code (4 : Nat) (Option.some Jvm.ClassFile.FieldType.int)) ∈ lw_all := lw_g (lw_at lw_m9 237 rfl) rfl
theorem q2286 : (Jvm.Cond.instanceMethod ({ cls := "Reorderium", name := "kindAt", desc := "(I)I" } : Jvm.MethodName)) ∈ lw_all := lw_g (lw_at lw_m10 18 rfl) rfl
theorem q2287 : (Jvm.Cond.selects "Reorderium" ({ cls := "Reorderium", name := "kindAt", desc := "(I)I" } : Jvm.MethodName) ({ cls := "Reorderium", name := "kindAt", desc := "(I)I" } : Jvm.MethodName)) ∈ lw_all := lw_g (lw_at lw_m10 19 rfl) rfl
theorem q2288 : (Jvm.Cond.code ({ cls := "Reorderium", name := "kindAt", desc := "(I)I" } : Jvm.MethodName) prog_1_method_66_code (2 : Nat) (Option.some Jvm.ClassFile.FieldType.int)) ∈ lw_all := lw_g (lw_at lw_m10 20 rfl) rfl
theorem q2289 : (Jvm.Cond.methodLink "Reorderium" (596 : Nat) ({ cls := "Reorderium", name := "endWith", desc := "(I)LReorderium$End;" } : Jvm.MethodName)) ∈ lw_all := lw_g (lw_at lw_m10 21 rfl) rfl
theorem q2290 : (Jvm.Cond.privateMethod ({ cls := "Reorderium", name := "endWith", desc := "(I)LReorderium$End;" } : Jvm.MethodName)) ∈ lw_tbl := lw_at lw_m10 22 rfl
theorem q2291 : (Jvm.Cond.instanceMethod ({ cls := "Reorderium", name := "endWith", desc := "(I)LReorderium$End;" } : Jvm.MethodName)) ∈ lw_all := lw_g (lw_at lw_m10 23 rfl) rfl
theorem q2292 : (Jvm.Cond.code ({ cls := "Reorderium", name := "endWith", desc := "(I)LReorderium$End;" } : Jvm.MethodName) prog_1_method_65_code (2 : Nat) (Option.some (Jvm.ClassFile.FieldType.object "Reorderium$End"))) ∈ lw_all := lw_g (lw_at lw_m10 24 rfl) rfl
theorem q2293 : (Jvm.Cond.methodLink "Reorderium" (593 : Nat) ({ cls := "Reorderium", name := "checkIndex", desc := "(II)V" } : Jvm.MethodName)) ∈ lw_all := lw_g (lw_at lw_m10 25 rfl) rfl
theorem q2294 : (Jvm.Cond.static ({ cls := "Reorderium", name := "checkIndex", desc := "(II)V" } : Jvm.MethodName)) ∈ lw_all := lw_g (lw_at lw_m10 26 rfl) rfl
theorem q2295 : (Jvm.Cond.code ({ cls := "Reorderium", name := "checkIndex", desc := "(II)V" } : Jvm.MethodName) prog_1_method_9_code (2 : Nat) (Option.none : Option Jvm.ClassFile.FieldType)) ∈ lw_all := lw_g (lw_at lw_m10 27 rfl) rfl
theorem q2296 : (Jvm.Cond.classLink "Reorderium" (150 : Nat) "java/lang/IndexOutOfBoundsException") ∈ lw_all := lw_g (lw_at lw_m10 28 rfl) rfl
theorem q2297 : (Jvm.Cond.methodLink "Reorderium" (152 : Nat) ({ cls := "java/lang/IndexOutOfBoundsException", name := "<init>", desc := "()V" } : Jvm.MethodName)) ∈ lw_all := lw_g (lw_at lw_m10 29 rfl) rfl
theorem q2305 : (Jvm.Cond.instanceMethod ({ cls := "Reorderium", name := "placeAt", desc := "(I)I" } : Jvm.MethodName)) ∈ lw_all := lw_g (lw_at lw_m10 37 rfl) rfl
theorem q2306 : (Jvm.Cond.selects "Reorderium" ({ cls := "Reorderium", name := "placeAt", desc := "(I)I" } : Jvm.MethodName) ({ cls := "Reorderium", name := "placeAt", desc := "(I)I" } : Jvm.MethodName)) ∈ lw_all := lw_g (lw_at lw_m10 38 rfl) rfl
theorem q2307 : (Jvm.Cond.code ({ cls := "Reorderium", name := "placeAt", desc := "(I)I" } : Jvm.MethodName) prog_1_method_67_code (2 : Nat) (Option.some Jvm.ClassFile.FieldType.int)) ∈ lw_all := lw_g (lw_at lw_m10 39 rfl) rfl
theorem q2312 : (Jvm.Cond.instanceMethod ({ cls := "Reorderium", name := "kindByPlain", desc := "(I)I" } : Jvm.MethodName)) ∈ lw_all := lw_g (lw_at lw_m10 44 rfl) rfl
theorem q2313 : (Jvm.Cond.selects "Reorderium" ({ cls := "Reorderium", name := "kindByPlain", desc := "(I)I" } : Jvm.MethodName) ({ cls := "Reorderium", name := "kindByPlain", desc := "(I)I" } : Jvm.MethodName)) ∈ lw_all := lw_g (lw_at lw_m10 45 rfl) rfl
theorem q2314 : (Jvm.Cond.code ({ cls := "Reorderium", name := "kindByPlain", desc := "(I)I" } : Jvm.MethodName) prog_1_method_71_code (3 : Nat) (Option.some Jvm.ClassFile.FieldType.int)) ∈ lw_all := lw_g (lw_at lw_m10 46 rfl) rfl
theorem q2315 : (Jvm.Cond.methodLink "Reorderium" (626 : Nat) ({ cls := "Reorderium", name := "plainAhead", desc := "(I)LReorderium$Plain;" } : Jvm.MethodName)) ∈ lw_all := lw_g (lw_at lw_m10 47 rfl) rfl
theorem q2316 : (Jvm.Cond.privateMethod ({ cls := "Reorderium", name := "plainAhead", desc := "(I)LReorderium$Plain;" } : Jvm.MethodName)) ∈ lw_tbl := lw_at lw_m10 48 rfl
theorem q2317 : (Jvm.Cond.instanceMethod ({ cls := "Reorderium", name := "plainAhead", desc := "(I)LReorderium$Plain;" } : Jvm.MethodName)) ∈ lw_all := lw_g (lw_at lw_m10 49 rfl) rfl
theorem q2318 : (Jvm.Cond.code ({ cls := "Reorderium", name := "plainAhead", desc := "(I)LReorderium$Plain;" } : Jvm.MethodName) prog_1_method_70_code (4 : Nat) (Option.some (Jvm.ClassFile.FieldType.object "Reorderium$Plain"))) ∈ lw_all := lw_g (lw_at lw_m10 50 rfl) rfl
theorem q2323 : (Jvm.Cond.instanceMethod ({ cls := "Reorderium", name := "placeByPlain", desc := "(I)I" } : Jvm.MethodName)) ∈ lw_all := lw_g (lw_at lw_m10 55 rfl) rfl
theorem q2324 : (Jvm.Cond.selects "Reorderium" ({ cls := "Reorderium", name := "placeByPlain", desc := "(I)I" } : Jvm.MethodName) ({ cls := "Reorderium", name := "placeByPlain", desc := "(I)I" } : Jvm.MethodName)) ∈ lw_all := lw_g (lw_at lw_m10 56 rfl) rfl
theorem q2325 : (Jvm.Cond.code ({ cls := "Reorderium", name := "placeByPlain", desc := "(I)I" } : Jvm.MethodName) prog_1_method_72_code (2 : Nat) (Option.some Jvm.ClassFile.FieldType.int)) ∈ lw_all := lw_g (lw_at lw_m10 57 rfl) rfl
theorem q2330 : (Jvm.Cond.instanceMethod ({ cls := "Reorderium", name := "register", desc := "(I)I" } : Jvm.MethodName)) ∈ lw_all := lw_g (lw_at lw_m10 62 rfl) rfl
theorem q2331 : (Jvm.Cond.selects "Reorderium" ({ cls := "Reorderium", name := "register", desc := "(I)I" } : Jvm.MethodName) ({ cls := "Reorderium", name := "register", desc := "(I)I" } : Jvm.MethodName)) ∈ lw_all := lw_g (lw_at lw_m10 63 rfl) rfl
theorem q2332 : (Jvm.Cond.code ({ cls := "Reorderium", name := "register", desc := "(I)I" } : Jvm.MethodName) prog_1_method_73_code (2 : Nat) (Option.some Jvm.ClassFile.FieldType.int)) ∈ lw_all := lw_g (lw_at lw_m10 64 rfl) rfl
theorem q2337 : (Jvm.Cond.instanceMethod ({ cls := "Reorderium", name := "registerByPlain", desc := "(I)I" } : Jvm.MethodName)) ∈ lw_all := lw_g (lw_at lw_m10 69 rfl) rfl
theorem q2338 : (Jvm.Cond.selects "Reorderium" ({ cls := "Reorderium", name := "registerByPlain", desc := "(I)I" } : Jvm.MethodName) ({ cls := "Reorderium", name := "registerByPlain", desc := "(I)I" } : Jvm.MethodName)) ∈ lw_all := lw_g (lw_at lw_m10 70 rfl) rfl
theorem q2339 : (Jvm.Cond.code ({ cls := "Reorderium", name := "registerByPlain", desc := "(I)I" } : Jvm.MethodName) prog_1_method_74_code (2 : Nat) (Option.some Jvm.ClassFile.FieldType.int)) ∈ lw_all := lw_g (lw_at lw_m10 71 rfl) rfl
theorem q2344 : (Jvm.Cond.instanceMethod ({ cls := "Reorderium", name := "word", desc := "(I)I" } : Jvm.MethodName)) ∈ lw_all := lw_g (lw_at lw_m10 76 rfl) rfl
theorem q2345 : (Jvm.Cond.selects "Reorderium" ({ cls := "Reorderium", name := "word", desc := "(I)I" } : Jvm.MethodName) ({ cls := "Reorderium", name := "word", desc := "(I)I" } : Jvm.MethodName)) ∈ lw_all := lw_g (lw_at lw_m10 77 rfl) rfl
theorem q2346 : (Jvm.Cond.code ({ cls := "Reorderium", name := "word", desc := "(I)I" } : Jvm.MethodName) prog_1_method_75_code (2 : Nat) (Option.some Jvm.ClassFile.FieldType.int)) ∈ lw_all := lw_g (lw_at lw_m10 78 rfl) rfl
theorem q2351 : (Jvm.Cond.instanceMethod ({ cls := "Reorderium", name := "wordByPlain", desc := "(I)I" } : Jvm.MethodName)) ∈ lw_all := lw_g (lw_at lw_m10 83 rfl) rfl
theorem q2352 : (Jvm.Cond.selects "Reorderium" ({ cls := "Reorderium", name := "wordByPlain", desc := "(I)I" } : Jvm.MethodName) ({ cls := "Reorderium", name := "wordByPlain", desc := "(I)I" } : Jvm.MethodName)) ∈ lw_all := lw_g (lw_at lw_m10 84 rfl) rfl
theorem q2353 : (Jvm.Cond.code ({ cls := "Reorderium", name := "wordByPlain", desc := "(I)I" } : Jvm.MethodName) prog_1_method_76_code (2 : Nat) (Option.some Jvm.ClassFile.FieldType.int)) ∈ lw_all := lw_g (lw_at lw_m10 85 rfl) rfl
theorem q2359 : (Jvm.Cond.instanceMethod ({ cls := "Reorderium", name := "kept", desc := "()I" } : Jvm.MethodName)) ∈ lw_all := lw_g (lw_at lw_m10 91 rfl) rfl
theorem q2360 : (Jvm.Cond.selects "Reorderium" ({ cls := "Reorderium", name := "kept", desc := "()I" } : Jvm.MethodName) ({ cls := "Reorderium", name := "kept", desc := "()I" } : Jvm.MethodName)) ∈ lw_all := lw_g (lw_at lw_m10 92 rfl) rfl
theorem q2361 : (Jvm.Cond.code ({ cls := "Reorderium", name := "kept", desc := "()I" } : Jvm.MethodName) prog_1_method_77_code (1 : Nat) (Option.some Jvm.ClassFile.FieldType.int)) ∈ lw_all := lw_g (lw_at lw_m10 93 rfl) rfl
theorem q2362 : (Jvm.Cond.methodLink "Reorderium" (635 : Nat) ({ cls := "Reorderium", name := "checkElement", desc := "(Z)V" } : Jvm.MethodName)) ∈ lw_all := lw_g (lw_at lw_m10 94 rfl) rfl
theorem q2363 : (Jvm.Cond.static ({ cls := "Reorderium", name := "checkElement", desc := "(Z)V" } : Jvm.MethodName)) ∈ lw_all := lw_g (lw_at lw_m10 95 rfl) rfl
theorem q2364 : (Jvm.Cond.code ({ cls := "Reorderium", name := "checkElement", desc := "(Z)V" } : Jvm.MethodName) prog_1_method_8_code (1 : Nat) (Option.none : Option Jvm.ClassFile.FieldType)) ∈ lw_all := lw_g (lw_at lw_m10 96 rfl) rfl
theorem q2365 : (Jvm.Cond.classLink "Reorderium" (147 : Nat) "java/util/NoSuchElementException") ∈ lw_all := lw_g (lw_at lw_m10 97 rfl) rfl
theorem q2366 : (Jvm.Cond.methodLink "Reorderium" (149 : Nat) ({ cls := "java/util/NoSuchElementException", name := "<init>", desc := "()V" } : Jvm.MethodName)) ∈ lw_all := lw_g (lw_at lw_m10 98 rfl) rfl
theorem q2371 : (Jvm.Cond.instanceMethod ({ cls := "Reorderium", name := "life", desc := "(II)I" } : Jvm.MethodName)) ∈ lw_all := lw_g (lw_at lw_m10 103 rfl) rfl
theorem q2372 : (Jvm.Cond.selects "Reorderium" ({ cls := "Reorderium", name := "life", desc := "(II)I" } : Jvm.MethodName) ({ cls := "Reorderium", name := "life", desc := "(II)I" } : Jvm.MethodName)) ∈ lw_all := lw_g (lw_at lw_m10 104 rfl) rfl
theorem q2373 : (Jvm.Cond.code ({ cls := "Reorderium", name := "life", desc := "(II)I" } : Jvm.MethodName) prog_1_method_78_code (5 : Nat) (Option.some Jvm.ClassFile.FieldType.int)) ∈ lw_all := lw_g (lw_at lw_m10 105 rfl) rfl
theorem q2378 : (Jvm.Cond.instanceMethod ({ cls := "Reorderium", name := "inner", desc := "(I)I" } : Jvm.MethodName)) ∈ lw_all := lw_g (lw_at lw_m10 110 rfl) rfl
theorem q2379 : (Jvm.Cond.selects "Reorderium" ({ cls := "Reorderium", name := "inner", desc := "(I)I" } : Jvm.MethodName) ({ cls := "Reorderium", name := "inner", desc := "(I)I" } : Jvm.MethodName)) ∈ lw_all := lw_g (lw_at lw_m10 111 rfl) rfl
theorem q2380 : (Jvm.Cond.code ({ cls := "Reorderium", name := "inner", desc := "(I)I" } : Jvm.MethodName) prog_1_method_79_code (2 : Nat) (Option.some Jvm.ClassFile.FieldType.int)) ∈ lw_all := lw_g (lw_at lw_m10 112 rfl) rfl
theorem q2385 : (Jvm.Cond.instanceMethod ({ cls := "Reorderium", name := "innerAnew", desc := "(I)I" } : Jvm.MethodName)) ∈ lw_all := lw_g (lw_at lw_m10 117 rfl) rfl
theorem q2386 : (Jvm.Cond.selects "Reorderium" ({ cls := "Reorderium", name := "innerAnew", desc := "(I)I" } : Jvm.MethodName) ({ cls := "Reorderium", name := "innerAnew", desc := "(I)I" } : Jvm.MethodName)) ∈ lw_all := lw_g (lw_at lw_m10 118 rfl) rfl
theorem q2387 : (Jvm.Cond.code ({ cls := "Reorderium", name := "innerAnew", desc := "(I)I" } : Jvm.MethodName) prog_1_method_80_code (5 : Nat) (Option.some Jvm.ClassFile.FieldType.int)) ∈ lw_all := lw_g (lw_at lw_m10 119 rfl) rfl
theorem q2392 : (Jvm.Cond.instanceMethod ({ cls := "Reorderium", name := "stateOf", desc := "(I)C" } : Jvm.MethodName)) ∈ lw_all := lw_g (lw_at lw_m10 124 rfl) rfl
theorem q2393 : (Jvm.Cond.selects "Reorderium" ({ cls := "Reorderium", name := "stateOf", desc := "(I)C" } : Jvm.MethodName) ({ cls := "Reorderium", name := "stateOf", desc := "(I)C" } : Jvm.MethodName)) ∈ lw_all := lw_g (lw_at lw_m10 125 rfl) rfl
theorem q2394 : (Jvm.Cond.code ({ cls := "Reorderium", name := "stateOf", desc := "(I)C" } : Jvm.MethodName) prog_1_method_82_code (2 : Nat) (Option.some Jvm.ClassFile.FieldType.char)) ∈ lw_all := lw_g (lw_at lw_m10 126 rfl) rfl
theorem q2395 : (Jvm.Cond.methodLink "Reorderium" (654 : Nat) ({ cls := "java/util/ArrayDeque", name := "contains", desc := "(Ljava/lang/Object;)Z" } : Jvm.MethodName)) ∈ lw_all := lw_g (lw_at lw_m10 127 rfl) rfl
theorem q2403 : (Jvm.Cond.selects "Reorderium" ({ cls := "java/lang/Object", name := "equals", desc := "(Ljava/lang/Object;)Z" } : Jvm.MethodName) ({ cls := "java/lang/Object", name := "equals", desc := "(Ljava/lang/Object;)Z" } : Jvm.MethodName)) ∈ lw_all := lw_g (lw_at lw_m10 135 rfl) rfl
theorem q2433 : (Jvm.Cond.instanceMethod ({ cls := "Reorderium", name := "isReady", desc := "(I)Z" } : Jvm.MethodName)) ∈ lw_all := lw_g (lw_at lw_m10 165 rfl) rfl
theorem q2434 : (Jvm.Cond.selects "Reorderium" ({ cls := "Reorderium", name := "isReady", desc := "(I)Z" } : Jvm.MethodName) ({ cls := "Reorderium", name := "isReady", desc := "(I)Z" } : Jvm.MethodName)) ∈ lw_all := lw_g (lw_at lw_m10 166 rfl) rfl
theorem q2435 : (Jvm.Cond.code ({ cls := "Reorderium", name := "isReady", desc := "(I)Z" } : Jvm.MethodName) prog_1_method_83_code (2 : Nat) (Option.some Jvm.ClassFile.FieldType.boolean)) ∈ lw_all := lw_g (lw_at lw_m10 167 rfl) rfl
theorem q2440 : (Jvm.Cond.instanceMethod ({ cls := "Reorderium", name := "freeAt", desc := "(I)I" } : Jvm.MethodName)) ∈ lw_all := lw_g (lw_at lw_m10 172 rfl) rfl
theorem q2441 : (Jvm.Cond.selects "Reorderium" ({ cls := "Reorderium", name := "freeAt", desc := "(I)I" } : Jvm.MethodName) ({ cls := "Reorderium", name := "freeAt", desc := "(I)I" } : Jvm.MethodName)) ∈ lw_all := lw_g (lw_at lw_m10 173 rfl) rfl
theorem q2442 : (Jvm.Cond.code ({ cls := "Reorderium", name := "freeAt", desc := "(I)I" } : Jvm.MethodName) prog_1_method_85_code (5 : Nat) (Option.some Jvm.ClassFile.FieldType.int)) ∈ lw_all := lw_g (lw_at lw_m10 174 rfl) rfl
theorem q2447 : (Jvm.Cond.instanceMethod ({ cls := "Reorderium", name := "bufferAt", desc := "(I)I" } : Jvm.MethodName)) ∈ lw_all := lw_g (lw_at lw_m10 179 rfl) rfl
theorem q2448 : (Jvm.Cond.selects "Reorderium" ({ cls := "Reorderium", name := "bufferAt", desc := "(I)I" } : Jvm.MethodName) ({ cls := "Reorderium", name := "bufferAt", desc := "(I)I" } : Jvm.MethodName)) ∈ lw_all := lw_g (lw_at lw_m10 180 rfl) rfl
theorem q2449 : (Jvm.Cond.code ({ cls := "Reorderium", name := "bufferAt", desc := "(I)I" } : Jvm.MethodName) prog_1_method_88_code (2 : Nat) (Option.some Jvm.ClassFile.FieldType.int)) ∈ lw_all := lw_g (lw_at lw_m10 181 rfl) rfl
theorem q2450 : (Jvm.Cond.methodLink "Reorderium" (662 : Nat) ({ cls := "Reorderium", name := "flightAt", desc := "(I)LReorderium$Flight;" } : Jvm.MethodName)) ∈ lw_all := lw_g (lw_at lw_m10 182 rfl) rfl
theorem q2451 : (Jvm.Cond.privateMethod ({ cls := "Reorderium", name := "flightAt", desc := "(I)LReorderium$Flight;" } : Jvm.MethodName)) ∈ lw_tbl := lw_at lw_m10 183 rfl
theorem q2452 : (Jvm.Cond.instanceMethod ({ cls := "Reorderium", name := "flightAt", desc := "(I)LReorderium$Flight;" } : Jvm.MethodName)) ∈ lw_all := lw_g (lw_at lw_m10 184 rfl) rfl
theorem q2453 : (Jvm.Cond.code ({ cls := "Reorderium", name := "flightAt", desc := "(I)LReorderium$Flight;" } : Jvm.MethodName) prog_1_method_87_code (2 : Nat) (Option.some (Jvm.ClassFile.FieldType.object "Reorderium$Flight"))) ∈ lw_all := lw_g (lw_at lw_m10 185 rfl) rfl
theorem q2454 : (Jvm.Cond.methodLink "Reorderium" (661 : Nat) ({ cls := "java/util/LinkedList", name := "get", desc := "(I)Ljava/lang/Object;" } : Jvm.MethodName)) ∈ lw_all := lw_g (lw_at lw_m10 186 rfl) rfl
theorem q2459 : (Jvm.Cond.instanceMethod ({ cls := "Reorderium", name := "stageAt", desc := "(I)C" } : Jvm.MethodName)) ∈ lw_all := lw_g (lw_at lw_m10 191 rfl) rfl
theorem q2460 : (Jvm.Cond.selects "Reorderium" ({ cls := "Reorderium", name := "stageAt", desc := "(I)C" } : Jvm.MethodName) ({ cls := "Reorderium", name := "stageAt", desc := "(I)C" } : Jvm.MethodName)) ∈ lw_all := lw_g (lw_at lw_m10 192 rfl) rfl
theorem q2461 : (Jvm.Cond.code ({ cls := "Reorderium", name := "stageAt", desc := "(I)C" } : Jvm.MethodName) prog_1_method_89_code (2 : Nat) (Option.some Jvm.ClassFile.FieldType.char)) ∈ lw_all := lw_g (lw_at lw_m10 193 rfl) rfl
theorem q2466 : (Jvm.Cond.instanceMethod ({ cls := "Reorderium", name := "fetching", desc := "()I" } : Jvm.MethodName)) ∈ lw_all := lw_g (lw_at lw_m10 198 rfl) rfl
theorem q2467 : (Jvm.Cond.selects "Reorderium" ({ cls := "Reorderium", name := "fetching", desc := "()I" } : Jvm.MethodName) ({ cls := "Reorderium", name := "fetching", desc := "()I" } : Jvm.MethodName)) ∈ lw_all := lw_g (lw_at lw_m10 199 rfl) rfl
theorem q2468 : (Jvm.Cond.code ({ cls := "Reorderium", name := "fetching", desc := "()I" } : Jvm.MethodName) prog_1_method_92_code (1 : Nat) (Option.some Jvm.ClassFile.FieldType.int)) ∈ lw_all := lw_g (lw_at lw_m10 200 rfl) rfl
theorem q2473 : (Jvm.Cond.instanceMethod ({ cls := "Reorderium", name := "returnAt", desc := "(I)I" } : Jvm.MethodName)) ∈ lw_all := lw_g (lw_at lw_m10 205 rfl) rfl
theorem q2474 : (Jvm.Cond.selects "Reorderium" ({ cls := "Reorderium", name := "returnAt", desc := "(I)I" } : Jvm.MethodName) ({ cls := "Reorderium", name := "returnAt", desc := "(I)I" } : Jvm.MethodName)) ∈ lw_all := lw_g (lw_at lw_m10 206 rfl) rfl
theorem q2475 : (Jvm.Cond.code ({ cls := "Reorderium", name := "returnAt", desc := "(I)I" } : Jvm.MethodName) prog_1_method_94_code (2 : Nat) (Option.some Jvm.ClassFile.FieldType.int)) ∈ lw_all := lw_g (lw_at lw_m10 207 rfl) rfl
theorem q2480 : (Jvm.Cond.instanceMethod ({ cls := "Reorderium", name := "counter", desc := "(I)I" } : Jvm.MethodName)) ∈ lw_all := lw_g (lw_at lw_m10 212 rfl) rfl
theorem q2481 : (Jvm.Cond.selects "Reorderium" ({ cls := "Reorderium", name := "counter", desc := "(I)I" } : Jvm.MethodName) ({ cls := "Reorderium", name := "counter", desc := "(I)I" } : Jvm.MethodName)) ∈ lw_all := lw_g (lw_at lw_m10 213 rfl) rfl
theorem q2482 : (Jvm.Cond.code ({ cls := "Reorderium", name := "counter", desc := "(I)I" } : Jvm.MethodName) prog_1_method_95_code (2 : Nat) (Option.some Jvm.ClassFile.FieldType.int)) ∈ lw_all := lw_g (lw_at lw_m10 214 rfl) rfl
theorem q2487 : (Jvm.Cond.instanceMethod ({ cls := "Reorderium", name := "isMarked", desc := "(I)Z" } : Jvm.MethodName)) ∈ lw_all := lw_g (lw_at lw_m10 219 rfl) rfl
theorem q2488 : (Jvm.Cond.selects "Reorderium" ({ cls := "Reorderium", name := "isMarked", desc := "(I)Z" } : Jvm.MethodName) ({ cls := "Reorderium", name := "isMarked", desc := "(I)Z" } : Jvm.MethodName)) ∈ lw_all := lw_g (lw_at lw_m10 220 rfl) rfl
theorem q2489 : (Jvm.Cond.code ({ cls := "Reorderium", name := "isMarked", desc := "(I)Z" } : Jvm.MethodName) prog_1_method_96_code (2 : Nat) (Option.some Jvm.ClassFile.FieldType.boolean)) ∈ lw_all := lw_g (lw_at lw_m10 221 rfl) rfl
theorem q2494 : (Jvm.Cond.instanceMethod ({ cls := "Reorderium", name := "lineAt", desc := "(I)I" } : Jvm.MethodName)) ∈ lw_all := lw_g (lw_at lw_m10 226 rfl) rfl
theorem q2495 : (Jvm.Cond.selects "Reorderium" ({ cls := "Reorderium", name := "lineAt", desc := "(I)I" } : Jvm.MethodName) ({ cls := "Reorderium", name := "lineAt", desc := "(I)I" } : Jvm.MethodName)) ∈ lw_all := lw_g (lw_at lw_m10 227 rfl) rfl
theorem q2496 : (Jvm.Cond.code ({ cls := "Reorderium", name := "lineAt", desc := "(I)I" } : Jvm.MethodName) prog_1_method_97_code (2 : Nat) (Option.some Jvm.ClassFile.FieldType.int)) ∈ lw_all := lw_g (lw_at lw_m10 228 rfl) rfl
theorem q2501 : (Jvm.Cond.instanceMethod ({ cls := "Reorderium", name := "lost", desc := "(C)I" } : Jvm.MethodName)) ∈ lw_all := lw_g (lw_at lw_m10 233 rfl) rfl
theorem q2502 : (Jvm.Cond.selects "Reorderium" ({ cls := "Reorderium", name := "lost", desc := "(C)I" } : Jvm.MethodName) ({ cls := "Reorderium", name := "lost", desc := "(C)I" } : Jvm.MethodName)) ∈ lw_all := lw_g (lw_at lw_m10 234 rfl) rfl
theorem q2503 : (Jvm.Cond.code ({ cls := "Reorderium", name := "lost", desc := "(C)I" } : Jvm.MethodName) prog_1_method_99_code (3 : Nat) (Option.some Jvm.ClassFile.FieldType.int)) ∈ lw_all := lw_g (lw_at lw_m10 235 rfl) rfl
theorem q2508 : (Jvm.Cond.instanceMethod ({ cls := "Reorderium", name := "share", desc := "()F" } : Jvm.MethodName)) ∈ lw_all := lw_g (lw_at lw_m11 0 rfl) rfl
theorem q2509 : (Jvm.Cond.selects "Reorderium" ({ cls := "Reorderium", name := "share", desc := "()F" } : Jvm.MethodName) ({ cls := "Reorderium", name := "share", desc := "()F" } : Jvm.MethodName)) ∈ lw_all := lw_g (lw_at lw_m11 1 rfl) rfl
theorem q2510 : (Jvm.Cond.code ({ cls := "Reorderium", name := "share", desc := "()F" } : Jvm.MethodName) prog_1_method_105_code (1 : Nat) (Option.some Jvm.ClassFile.FieldType.float)) ∈ lw_all := lw_g (lw_at lw_m11 2 rfl) rfl
theorem q3117 : (Jvm.Cond.castable "Reorderium" "java/lang/Object") ∈ lw_tbl := lw_at lw_m13 129 rfl
theorem in_X1 : ∀ w ∈ wsX10, w ∈ lw_all := lw_in wsX10 [789, 791, 793, 795, 797, 799, 801, 803, 805, 807, 809, 811, 813, 815, 817, 819, 821, 823, 825, 827, 829, 831, 833, 835, 837, 839, 841, 843, 845, 847, 849, 851, 853, 855, 857, 859, 861] (by decide +kernel) (by decide +kernel)

theorem q113 : (Jvm.Cond.initialized "Reorderium$Handling") ∈ lw_all := lw_g (lw_at lw_m1 5 rfl) rfl
theorem q199 : (Jvm.Cond.instantiable "Reorderium$Handling" (4 : Nat)) ∈ lw_all := lw_g (lw_at lw_m1 91 rfl) rfl
theorem q201 : (Jvm.Cond.instanceMethod ({ cls := "Reorderium$Handling", name := "<init>", desc := "()V" } : Jvm.MethodName)) ∈ lw_all := lw_g (lw_at lw_m1 93 rfl) rfl
theorem q202 : (Jvm.Cond.code ({ cls := "Reorderium$Handling", name := "<init>", desc := "()V" } : Jvm.MethodName) prog_6_method_1_code (1 : Nat) (Option.none : Option Jvm.ClassFile.FieldType)) ∈ lw_all := lw_g (lw_at lw_m1 94 rfl) rfl
theorem q203 : (Jvm.Cond.methodLink "Reorderium$Handling" (3 : Nat) ({ cls := "java/lang/Object", name := "<init>", desc := "()V" } : Jvm.MethodName)) ∈ lw_all := lw_g (lw_at lw_m1 95 rfl) rfl
theorem q204 : (Jvm.Cond.fieldLink "Reorderium$Handling" (9 : Nat) "Reorderium$Handling" "forTraps" "I") ∈ lw_all := lw_g (lw_at lw_m1 96 rfl) rfl
theorem q206 : (Jvm.Cond.fieldLink "Reorderium$Handling" (15 : Nat) "Reorderium$Handling" "forInterrupts" "I") ∈ lw_all := lw_g (lw_at lw_m1 98 rfl) rfl
theorem q208 : (Jvm.Cond.fieldLink "Reorderium$Handling" (18 : Nat) "Reorderium$Handling" "isUnderWay" "Z") ∈ lw_all := lw_g (lw_at lw_m1 100 rfl) rfl
theorem q211 : (Jvm.Cond.fieldLink "Reorderium$Handling" (22 : Nat) "Reorderium$Handling" "kept" "I") ∈ lw_all := lw_g (lw_at lw_m1 103 rfl) rfl
theorem q213 : (Jvm.Cond.lays "Reorderium$Handling" "Reorderium$Handling" "forTraps" "I") ∈ lw_all := lw_g (lw_at lw_m1 105 rfl) rfl
theorem q214 : (Jvm.Cond.soleField "Reorderium$Handling" "forTraps") ∈ lw_all := lw_g (lw_at lw_m1 106 rfl) rfl
theorem q215 : (Jvm.Cond.lays "Reorderium$Handling" "Reorderium$Handling" "forInterrupts" "I") ∈ lw_all := lw_g (lw_at lw_m1 107 rfl) rfl
theorem q216 : (Jvm.Cond.soleField "Reorderium$Handling" "forInterrupts") ∈ lw_all := lw_g (lw_at lw_m1 108 rfl) rfl
theorem q217 : (Jvm.Cond.lays "Reorderium$Handling" "Reorderium$Handling" "isUnderWay" "Z") ∈ lw_all := lw_g (lw_at lw_m1 109 rfl) rfl
theorem q218 : (Jvm.Cond.soleField "Reorderium$Handling" "isUnderWay") ∈ lw_all := lw_g (lw_at lw_m1 110 rfl) rfl
theorem q219 : (Jvm.Cond.lays "Reorderium$Handling" "Reorderium$Handling" "kept" "I") ∈ lw_all := lw_g (lw_at lw_m1 111 rfl) rfl
theorem q220 : (Jvm.Cond.soleField "Reorderium$Handling" "kept") ∈ lw_all := lw_g (lw_at lw_m1 112 rfl) rfl
theorem q221 : (Jvm.Cond.superclass "Reorderium$Handling" "java/lang/Object") ∈ lw_all := lw_g (lw_at lw_m1 113 rfl) rfl
theorem q720 : (Jvm.Cond.selects "Reorderium$Handling" ({ cls := "java/lang/Object", name := "getClass", desc := "()Ljava/lang/Class;" } : Jvm.MethodName) ({ cls := "java/lang/Object", name := "getClass", desc := "()Ljava/lang/Class;" } : Jvm.MethodName)) ∈ lw_all := lw_g (lw_at lw_m3 132 rfl) rfl
theorem q959 : (Jvm.Cond.instanceMethod ({ cls := "Reorderium$Handling", name := "anew", desc := "()LReorderium$Handling;" } : Jvm.MethodName)) ∈ lw_all := lw_g (lw_at lw_m4 131 rfl) rfl
theorem q960 : (Jvm.Cond.selects "Reorderium$Handling" ({ cls := "Reorderium$Handling", name := "anew", desc := "()LReorderium$Handling;" } : Jvm.MethodName) ({ cls := "Reorderium$Handling", name := "anew", desc := "()LReorderium$Handling;" } : Jvm.MethodName)) ∈ lw_all := lw_g (lw_at lw_m4 132 rfl) rfl
theorem q961 : (Jvm.Cond.code ({ cls := "Reorderium$Handling", name := "anew", desc := "()LReorderium$Handling;" } : Jvm.MethodName) prog_6_method_5_code (2 : Nat) (Option.some (Jvm.ClassFile.FieldType.object "Reorderium$Handling"))) ∈ lw_all := lw_g (lw_at lw_m4 133 rfl) rfl
theorem q962 : (Jvm.Cond.classLink "Reorderium$Handling" (10 : Nat) "Reorderium$Handling") ∈ lw_all := lw_g (lw_at lw_m4 134 rfl) rfl
theorem q963 : (Jvm.Cond.methodLink "Reorderium$Handling" (25 : Nat) ({ cls := "Reorderium$Handling", name := "<init>", desc := "()V" } : Jvm.MethodName)) ∈ lw_all := lw_g (lw_at lw_m4 135 rfl) rfl
theorem q1334 : (Jvm.Cond.instanceMethod ({ cls := "Reorderium$Handling", name := "interrupt", desc := "(I)I" } : Jvm.MethodName)) ∈ lw_all := lw_g (lw_at lw_m6 26 rfl) rfl
theorem q1335 : (Jvm.Cond.selects "Reorderium$Handling" ({ cls := "Reorderium$Handling", name := "interrupt", desc := "(I)I" } : Jvm.MethodName) ({ cls := "Reorderium$Handling", name := "interrupt", desc := "(I)I" } : Jvm.MethodName)) ∈ lw_all := lw_g (lw_at lw_m6 27 rfl) rfl
theorem q1336 : (Jvm.Cond.code ({ cls := "Reorderium$Handling", name := "interrupt", desc := "(I)I" } : Jvm.MethodName) prog_6_method_3_code (2 : Nat) (Option.some Jvm.ClassFile.FieldType.int)) ∈ lw_all := lw_g (lw_at lw_m6 28 rfl) rfl
theorem q1389 : (Jvm.Cond.instanceMethod ({ cls := "Reorderium$Handling", name := "trap", desc := "(I)I" } : Jvm.MethodName)) ∈ lw_all := lw_g (lw_at lw_m6 81 rfl) rfl
theorem q1390 : (Jvm.Cond.selects "Reorderium$Handling" ({ cls := "Reorderium$Handling", name := "trap", desc := "(I)I" } : Jvm.MethodName) ({ cls := "Reorderium$Handling", name := "trap", desc := "(I)I" } : Jvm.MethodName)) ∈ lw_all := lw_g (lw_at lw_m6 82 rfl) rfl
theorem q1391 : (Jvm.Cond.code ({ cls := "Reorderium$Handling", name := "trap", desc := "(I)I" } : Jvm.MethodName) prog_6_method_2_code (2 : Nat) (Option.some Jvm.ClassFile.FieldType.int)) ∈ lw_all := lw_g (lw_at lw_m6 83 rfl) rfl
theorem q1421 : (Jvm.Cond.instanceMethod ({ cls := "Reorderium$Handling", name := "goBack", desc := "()I" } : Jvm.MethodName)) ∈ lw_all := lw_g (lw_at lw_m6 113 rfl) rfl
theorem q1422 : (Jvm.Cond.selects "Reorderium$Handling" ({ cls := "Reorderium$Handling", name := "goBack", desc := "()I" } : Jvm.MethodName) ({ cls := "Reorderium$Handling", name := "goBack", desc := "()I" } : Jvm.MethodName)) ∈ lw_all := lw_g (lw_at lw_m6 114 rfl) rfl
theorem q1423 : (Jvm.Cond.code ({ cls := "Reorderium$Handling", name := "goBack", desc := "()I" } : Jvm.MethodName) prog_6_method_4_code (1 : Nat) (Option.some Jvm.ClassFile.FieldType.int)) ∈ lw_all := lw_g (lw_at lw_m6 115 rfl) rfl
theorem q1425 : (Jvm.Cond.instanceMethod ({ cls := "Reorderium$Handling", name := "isSame", desc := "(LReorderium$Handling;)Z" } : Jvm.MethodName)) ∈ lw_all := lw_g (lw_at lw_m6 117 rfl) rfl
theorem q1426 : (Jvm.Cond.selects "Reorderium$Handling" ({ cls := "Reorderium$Handling", name := "isSame", desc := "(LReorderium$Handling;)Z" } : Jvm.MethodName) ({ cls := "Reorderium$Handling", name := "isSame", desc := "(LReorderium$Handling;)Z" } : Jvm.MethodName)) ∈ lw_all := lw_g (lw_at lw_m6 118 rfl) rfl
theorem q1427 : (Jvm.Cond.code ({ cls := "Reorderium$Handling", name := "isSame", desc := "(LReorderium$Handling;)Z" } : Jvm.MethodName) prog_6_method_6_code (2 : Nat) (Option.some Jvm.ClassFile.FieldType.boolean)) ∈ lw_all := lw_g (lw_at lw_m6 119 rfl) rfl
theorem q2407 : (Jvm.Cond.selects "Reorderium$Handling" ({ cls := "java/lang/Object", name := "equals", desc := "(Ljava/lang/Object;)Z" } : Jvm.MethodName) ({ cls := "java/lang/Object", name := "equals", desc := "(Ljava/lang/Object;)Z" } : Jvm.MethodName)) ∈ lw_all := lw_g (lw_at lw_m10 139 rfl) rfl
theorem q3119 : (Jvm.Cond.castable "Reorderium$Handling" "java/lang/Object") ∈ lw_tbl := lw_at lw_m13 131 rfl
theorem in_X2 : ∀ w ∈ wsX20, w ∈ lw_all := lw_in wsX20 [213, 215, 217, 219] (by decide +kernel) (by decide +kernel)

theorem q137 : (Jvm.Cond.initialized "ReorderiumModel") ∈ lw_all := lw_g (lw_at lw_m1 29 rfl) rfl
theorem q724 : (Jvm.Cond.selects "ReorderiumModel" ({ cls := "java/lang/Object", name := "getClass", desc := "()Ljava/lang/Class;" } : Jvm.MethodName) ({ cls := "java/lang/Object", name := "getClass", desc := "()Ljava/lang/Class;" } : Jvm.MethodName)) ∈ lw_all := lw_g (lw_at lw_m3 136 rfl) rfl
theorem q2411 : (Jvm.Cond.selects "ReorderiumModel" ({ cls := "java/lang/Object", name := "equals", desc := "(Ljava/lang/Object;)Z" } : Jvm.MethodName) ({ cls := "java/lang/Object", name := "equals", desc := "(Ljava/lang/Object;)Z" } : Jvm.MethodName)) ∈ lw_all := lw_g (lw_at lw_m10 143 rfl) rfl
theorem q2512 : (Jvm.Cond.instantiable "ReorderiumModel" (61 : Nat)) ∈ lw_all := lw_g (lw_at lw_m11 4 rfl) rfl
theorem q2514 : (Jvm.Cond.instanceMethod ({ cls := "ReorderiumModel", name := "<init>", desc := "()V" } : Jvm.MethodName)) ∈ lw_all := lw_g (lw_at lw_m11 6 rfl) rfl
theorem q2515 : (Jvm.Cond.code ({ cls := "ReorderiumModel", name := "<init>", desc := "()V" } : Jvm.MethodName) prog_11_method_1_code (2 : Nat) (Option.none : Option Jvm.ClassFile.FieldType)) ∈ lw_all := lw_g (lw_at lw_m11 7 rfl) rfl
theorem q2516 : (Jvm.Cond.methodLink "ReorderiumModel" (1 : Nat) ({ cls := "java/lang/Object", name := "<init>", desc := "()V" } : Jvm.MethodName)) ∈ lw_all := lw_g (lw_at lw_m11 8 rfl) rfl
theorem q2517 : (Jvm.Cond.classLink "ReorderiumModel" (72 : Nat) "[[I") ∈ lw_all := lw_g (lw_at lw_m11 9 rfl) rfl
theorem q2519 : (Jvm.Cond.classLink "ReorderiumModel" (107 : Nat) "[I") ∈ lw_all := lw_g (lw_at lw_m11 11 rfl) rfl
theorem q2520 : (Jvm.Cond.methodLink "ReorderiumModel" (120 : Nat) ({ cls := "ReorderiumModel", name := "laysFree", desc := "()V" } : Jvm.MethodName)) ∈ lw_all := lw_g (lw_at lw_m11 12 rfl) rfl
theorem q2521 : (Jvm.Cond.privateMethod ({ cls := "ReorderiumModel", name := "laysFree", desc := "()V" } : Jvm.MethodName)) ∈ lw_tbl := lw_at lw_m11 13 rfl
theorem q2522 : (Jvm.Cond.instanceMethod ({ cls := "ReorderiumModel", name := "laysFree", desc := "()V" } : Jvm.MethodName)) ∈ lw_all := lw_g (lw_at lw_m11 14 rfl) rfl
theorem q2523 : (Jvm.Cond.code ({ cls := "ReorderiumModel", name := "laysFree", desc := "()V" } : Jvm.MethodName) prog_11_method_5_code (2 : Nat) (Option.none : Option Jvm.ClassFile.FieldType)) ∈ lw_all := lw_g (lw_at lw_m11 15 rfl) rfl
theorem q2524 : (Jvm.Cond.fieldLink "ReorderiumModel" (9 : Nat) "ReorderiumModel" "codes" "[I") ∈ lw_all := lw_g (lw_at lw_m11 16 rfl) rfl
theorem q2525 : (Jvm.Cond.fieldLink "ReorderiumModel" (13 : Nat) "ReorderiumModel" "ds" "[I") ∈ lw_all := lw_g (lw_at lw_m11 17 rfl) rfl
theorem q2526 : (Jvm.Cond.fieldLink "ReorderiumModel" (16 : Nat) "ReorderiumModel" "as" "[I") ∈ lw_all := lw_g (lw_at lw_m11 18 rfl) rfl
theorem q2527 : (Jvm.Cond.fieldLink "ReorderiumModel" (19 : Nat) "ReorderiumModel" "bs" "[I") ∈ lw_all := lw_g (lw_at lw_m11 19 rfl) rfl
theorem q2528 : (Jvm.Cond.fieldLink "ReorderiumModel" (22 : Nat) "ReorderiumModel" "ns" "[I") ∈ lw_all := lw_g (lw_at lw_m11 20 rfl) rfl
theorem q2529 : (Jvm.Cond.fieldLink "ReorderiumModel" (136 : Nat) "ReorderiumModel" "program" "I") ∈ lw_all := lw_g (lw_at lw_m11 21 rfl) rfl
theorem q2530 : (Jvm.Cond.fieldLink "ReorderiumModel" (25 : Nat) "ReorderiumModel" "width" "I") ∈ lw_all := lw_g (lw_at lw_m11 22 rfl) rfl
theorem q2531 : (Jvm.Cond.fieldLink "ReorderiumModel" (29 : Nat) "ReorderiumModel" "bufferMost" "I") ∈ lw_all := lw_g (lw_at lw_m11 23 rfl) rfl
theorem q2532 : (Jvm.Cond.fieldLink "ReorderiumModel" (32 : Nat) "ReorderiumModel" "queueMost" "I") ∈ lw_all := lw_g (lw_at lw_m11 24 rfl) rfl
theorem q2533 : (Jvm.Cond.fieldLink "ReorderiumModel" (35 : Nat) "ReorderiumModel" "inners" "I") ∈ lw_all := lw_g (lw_at lw_m11 25 rfl) rfl
theorem q2534 : (Jvm.Cond.fieldLink "ReorderiumModel" (38 : Nat) "ReorderiumModel" "trapHandler" "I") ∈ lw_all := lw_g (lw_at lw_m11 26 rfl) rfl
theorem q2535 : (Jvm.Cond.fieldLink "ReorderiumModel" (41 : Nat) "ReorderiumModel" "interruptHandler" "I") ∈ lw_all := lw_g (lw_at lw_m11 27 rfl) rfl
theorem q2536 : (Jvm.Cond.fieldLink "ReorderiumModel" (44 : Nat) "ReorderiumModel" "firstRegisters" "[I") ∈ lw_all := lw_g (lw_at lw_m11 28 rfl) rfl
theorem q2537 : (Jvm.Cond.fieldLink "ReorderiumModel" (47 : Nat) "ReorderiumModel" "firstWords" "[I") ∈ lw_all := lw_g (lw_at lw_m11 29 rfl) rfl
theorem q2538 : (Jvm.Cond.fieldLink "ReorderiumModel" (50 : Nat) "ReorderiumModel" "times" "[I") ∈ lw_all := lw_g (lw_at lw_m11 30 rfl) rfl
theorem q2539 : (Jvm.Cond.fieldLink "ReorderiumModel" (53 : Nat) "ReorderiumModel" "words" "[I") ∈ lw_all := lw_g (lw_at lw_m11 31 rfl) rfl
theorem q2540 : (Jvm.Cond.fieldLink "ReorderiumModel" (56 : Nat) "ReorderiumModel" "map" "[I") ∈ lw_all := lw_g (lw_at lw_m11 32 rfl) rfl
theorem q2541 : (Jvm.Cond.fieldLink "ReorderiumModel" (59 : Nat) "ReorderiumModel" "retiredMap" "[I") ∈ lw_all := lw_g (lw_at lw_m11 33 rfl) rfl
theorem q2542 : (Jvm.Cond.fieldLink "ReorderiumModel" (62 : Nat) "ReorderiumModel" "values" "[I") ∈ lw_all := lw_g (lw_at lw_m11 34 rfl) rfl
theorem q2543 : (Jvm.Cond.fieldLink "ReorderiumModel" (65 : Nat) "ReorderiumModel" "isReady" "[Z") ∈ lw_all := lw_g (lw_at lw_m11 35 rfl) rfl
theorem q2544 : (Jvm.Cond.fieldLink "ReorderiumModel" (69 : Nat) "ReorderiumModel" "freeLine" "[I") ∈ lw_all := lw_g (lw_at lw_m11 36 rfl) rfl
theorem q2545 : (Jvm.Cond.fieldLink "ReorderiumModel" (126 : Nat) "ReorderiumModel" "freeMany" "I") ∈ lw_all := lw_g (lw_at lw_m11 37 rfl) rfl
theorem q2546 : (Jvm.Cond.fieldLink "ReorderiumModel" (74 : Nat) "ReorderiumModel" "buffer" "[[I") ∈ lw_all := lw_g (lw_at lw_m11 38 rfl) rfl
theorem q2547 : (Jvm.Cond.fieldLink "ReorderiumModel" (198 : Nat) "ReorderiumModel" "inBuffer" "I") ∈ lw_all := lw_g (lw_at lw_m11 39 rfl) rfl
theorem q2548 : (Jvm.Cond.fieldLink "ReorderiumModel" (77 : Nat) "ReorderiumModel" "line" "[[I") ∈ lw_all := lw_g (lw_at lw_m11 40 rfl) rfl
theorem q2549 : (Jvm.Cond.fieldLink "ReorderiumModel" (177 : Nat) "ReorderiumModel" "inLine" "I") ∈ lw_all := lw_g (lw_at lw_m11 41 rfl) rfl
theorem q2550 : (Jvm.Cond.fieldLink "ReorderiumModel" (180 : Nat) "ReorderiumModel" "fetchPlace" "I") ∈ lw_all := lw_g (lw_at lw_m11 42 rfl) rfl
theorem q2551 : (Jvm.Cond.fieldLink "ReorderiumModel" (174 : Nat) "ReorderiumModel" "isHeld" "Z") ∈ lw_all := lw_g (lw_at lw_m11 43 rfl) rfl
theorem q2552 : (Jvm.Cond.fieldLink "ReorderiumModel" (80 : Nat) "ReorderiumModel" "stack" "[I") ∈ lw_all := lw_g (lw_at lw_m11 44 rfl) rfl
theorem q2553 : (Jvm.Cond.fieldLink "ReorderiumModel" (83 : Nat) "ReorderiumModel" "counters" "[I") ∈ lw_all := lw_g (lw_at lw_m11 45 rfl) rfl
theorem q2554 : (Jvm.Cond.fieldLink "ReorderiumModel" (86 : Nat) "ReorderiumModel" "table" "[I") ∈ lw_all := lw_g (lw_at lw_m11 46 rfl) rfl
theorem q2555 : (Jvm.Cond.fieldLink "ReorderiumModel" (89 : Nat) "ReorderiumModel" "marks" "[Z") ∈ lw_all := lw_g (lw_at lw_m11 47 rfl) rfl
theorem q2556 : (Jvm.Cond.fieldLink "ReorderiumModel" (92 : Nat) "ReorderiumModel" "cached" "[I") ∈ lw_all := lw_g (lw_at lw_m11 48 rfl) rfl
theorem q2557 : (Jvm.Cond.fieldLink "ReorderiumModel" (95 : Nat) "ReorderiumModel" "askedLines" "[I") ∈ lw_all := lw_g (lw_at lw_m11 49 rfl) rfl
theorem q2558 : (Jvm.Cond.fieldLink "ReorderiumModel" (98 : Nat) "ReorderiumModel" "askedUntil" "[I") ∈ lw_all := lw_g (lw_at lw_m11 50 rfl) rfl
theorem q2559 : (Jvm.Cond.fieldLink "ReorderiumModel" (222 : Nat) "ReorderiumModel" "asked" "I") ∈ lw_all := lw_g (lw_at lw_m11 51 rfl) rfl
theorem q2560 : (Jvm.Cond.fieldLink "ReorderiumModel" (133 : Nat) "ReorderiumModel" "cycle" "I") ∈ lw_all := lw_g (lw_at lw_m11 52 rfl) rfl
theorem q2561 : (Jvm.Cond.fieldLink "ReorderiumModel" (147 : Nat) "ReorderiumModel" "hasStopped" "Z") ∈ lw_all := lw_g (lw_at lw_m11 53 rfl) rfl
theorem q2562 : (Jvm.Cond.fieldLink "ReorderiumModel" (143 : Nat) "ReorderiumModel" "isAsked" "Z") ∈ lw_all := lw_g (lw_at lw_m11 54 rfl) rfl
theorem q2563 : (Jvm.Cond.fieldLink "ReorderiumModel" (291 : Nat) "ReorderiumModel" "isHandling" "Z") ∈ lw_all := lw_g (lw_at lw_m11 55 rfl) rfl
theorem q2564 : (Jvm.Cond.fieldLink "ReorderiumModel" (288 : Nat) "ReorderiumModel" "kept" "I") ∈ lw_all := lw_g (lw_at lw_m11 56 rfl) rfl
theorem q2565 : (Jvm.Cond.fieldLink "ReorderiumModel" (294 : Nat) "ReorderiumModel" "next" "I") ∈ lw_all := lw_g (lw_at lw_m11 57 rfl) rfl
theorem q2566 : (Jvm.Cond.fieldLink "ReorderiumModel" (183 : Nat) "ReorderiumModel" "numbers" "I") ∈ lw_all := lw_g (lw_at lw_m11 58 rfl) rfl
theorem q2567 : (Jvm.Cond.fieldLink "ReorderiumModel" (101 : Nat) "ReorderiumModel" "endKinds" "[I") ∈ lw_all := lw_g (lw_at lw_m11 59 rfl) rfl
theorem q2568 : (Jvm.Cond.fieldLink "ReorderiumModel" (104 : Nat) "ReorderiumModel" "endPlaces" "[I") ∈ lw_all := lw_g (lw_at lw_m11 60 rfl) rfl
theorem q2569 : (Jvm.Cond.fieldLink "ReorderiumModel" (108 : Nat) "ReorderiumModel" "lives" "[[I") ∈ lw_all := lw_g (lw_at lw_m11 61 rfl) rfl
theorem q2570 : (Jvm.Cond.fieldLink "ReorderiumModel" (150 : Nat) "ReorderiumModel" "ends" "I") ∈ lw_all := lw_g (lw_at lw_m11 62 rfl) rfl
theorem q2571 : (Jvm.Cond.fieldLink "ReorderiumModel" (111 : Nat) "ReorderiumModel" "lost" "[I") ∈ lw_all := lw_g (lw_at lw_m11 63 rfl) rfl
theorem q2572 : (Jvm.Cond.fieldLink "ReorderiumModel" (283 : Nat) "ReorderiumModel" "wrong" "I") ∈ lw_all := lw_g (lw_at lw_m11 64 rfl) rfl
theorem q2573 : (Jvm.Cond.fieldLink "ReorderiumModel" (268 : Nat) "ReorderiumModel" "early" "I") ∈ lw_all := lw_g (lw_at lw_m11 65 rfl) rfl
theorem q2574 : (Jvm.Cond.fieldLink "ReorderiumModel" (253 : Nat) "ReorderiumModel" "gone" "I") ∈ lw_all := lw_g (lw_at lw_m11 66 rfl) rfl
theorem q2575 : (Jvm.Cond.fieldLink "ReorderiumModel" (234 : Nat) "ReorderiumModel" "taken" "I") ∈ lw_all := lw_g (lw_at lw_m11 67 rfl) rfl
theorem q2576 : (Jvm.Cond.fieldLink "ReorderiumModel" (237 : Nat) "ReorderiumModel" "there" "I") ∈ lw_all := lw_g (lw_at lw_m11 68 rfl) rfl
theorem q2577 : (Jvm.Cond.fieldLink "ReorderiumModel" (243 : Nat) "ReorderiumModel" "asking" "I") ∈ lw_all := lw_g (lw_at lw_m11 69 rfl) rfl
theorem q2578 : (Jvm.Cond.fieldLink "ReorderiumModel" (123 : Nat) "ReorderiumModel" "thrown" "I") ∈ lw_all := lw_g (lw_at lw_m11 70 rfl) rfl
theorem q2579 : (Jvm.Cond.fieldLink "ReorderiumModel" (114 : Nat) "ReorderiumModel" "plainRegisters" "[I") ∈ lw_all := lw_g (lw_at lw_m11 71 rfl) rfl
theorem q2580 : (Jvm.Cond.fieldLink "ReorderiumModel" (117 : Nat) "ReorderiumModel" "plainWords" "[I") ∈ lw_all := lw_g (lw_at lw_m11 72 rfl) rfl
theorem q2581 : (Jvm.Cond.fieldLink "ReorderiumModel" (337 : Nat) "ReorderiumModel" "plainPlace" "I") ∈ lw_all := lw_g (lw_at lw_m11 73 rfl) rfl
theorem q2582 : (Jvm.Cond.fieldLink "ReorderiumModel" (343 : Nat) "ReorderiumModel" "plainKept" "I") ∈ lw_all := lw_g (lw_at lw_m11 74 rfl) rfl
theorem q2583 : (Jvm.Cond.fieldLink "ReorderiumModel" (334 : Nat) "ReorderiumModel" "plainHandling" "Z") ∈ lw_all := lw_g (lw_at lw_m11 75 rfl) rfl
theorem q2584 : (Jvm.Cond.fieldLink "ReorderiumModel" (340 : Nat) "ReorderiumModel" "plainStopped" "Z") ∈ lw_all := lw_g (lw_at lw_m11 76 rfl) rfl
theorem q2585 : (Jvm.Cond.laysFinal "ReorderiumModel" "ReorderiumModel" "codes" "[I") ∈ lw_all := lw_g (lw_at lw_m11 77 rfl) rfl
theorem q2586 : (Jvm.Cond.soleField "ReorderiumModel" "codes") ∈ lw_all := lw_g (lw_at lw_m11 78 rfl) rfl
theorem q2587 : (Jvm.Cond.laysFinal "ReorderiumModel" "ReorderiumModel" "ds" "[I") ∈ lw_all := lw_g (lw_at lw_m11 79 rfl) rfl
theorem q2588 : (Jvm.Cond.soleField "ReorderiumModel" "ds") ∈ lw_all := lw_g (lw_at lw_m11 80 rfl) rfl
theorem q2589 : (Jvm.Cond.laysFinal "ReorderiumModel" "ReorderiumModel" "as" "[I") ∈ lw_all := lw_g (lw_at lw_m11 81 rfl) rfl
theorem q2590 : (Jvm.Cond.soleField "ReorderiumModel" "as") ∈ lw_all := lw_g (lw_at lw_m11 82 rfl) rfl
theorem q2591 : (Jvm.Cond.laysFinal "ReorderiumModel" "ReorderiumModel" "bs" "[I") ∈ lw_all := lw_g (lw_at lw_m11 83 rfl) rfl
theorem q2592 : (Jvm.Cond.soleField "ReorderiumModel" "bs") ∈ lw_all := lw_g (lw_at lw_m11 84 rfl) rfl
theorem q2593 : (Jvm.Cond.laysFinal "ReorderiumModel" "ReorderiumModel" "ns" "[I") ∈ lw_all := lw_g (lw_at lw_m11 85 rfl) rfl
theorem q2594 : (Jvm.Cond.soleField "ReorderiumModel" "ns") ∈ lw_all := lw_g (lw_at lw_m11 86 rfl) rfl
theorem q2595 : (Jvm.Cond.lays "ReorderiumModel" "ReorderiumModel" "program" "I") ∈ lw_all := lw_g (lw_at lw_m11 87 rfl) rfl
theorem q2596 : (Jvm.Cond.soleField "ReorderiumModel" "program") ∈ lw_all := lw_g (lw_at lw_m11 88 rfl) rfl
theorem q2597 : (Jvm.Cond.lays "ReorderiumModel" "ReorderiumModel" "width" "I") ∈ lw_all := lw_g (lw_at lw_m11 89 rfl) rfl
theorem q2598 : (Jvm.Cond.soleField "ReorderiumModel" "width") ∈ lw_all := lw_g (lw_at lw_m11 90 rfl) rfl
theorem q2599 : (Jvm.Cond.lays "ReorderiumModel" "ReorderiumModel" "bufferMost" "I") ∈ lw_all := lw_g (lw_at lw_m11 91 rfl) rfl
theorem q2600 : (Jvm.Cond.soleField "ReorderiumModel" "bufferMost") ∈ lw_all := lw_g (lw_at lw_m11 92 rfl) rfl
theorem q2601 : (Jvm.Cond.lays "ReorderiumModel" "ReorderiumModel" "queueMost" "I") ∈ lw_all := lw_g (lw_at lw_m11 93 rfl) rfl
theorem q2602 : (Jvm.Cond.soleField "ReorderiumModel" "queueMost") ∈ lw_all := lw_g (lw_at lw_m11 94 rfl) rfl
theorem q2603 : (Jvm.Cond.lays "ReorderiumModel" "ReorderiumModel" "inners" "I") ∈ lw_all := lw_g (lw_at lw_m11 95 rfl) rfl
theorem q2604 : (Jvm.Cond.soleField "ReorderiumModel" "inners") ∈ lw_all := lw_g (lw_at lw_m11 96 rfl) rfl
theorem q2605 : (Jvm.Cond.lays "ReorderiumModel" "ReorderiumModel" "trapHandler" "I") ∈ lw_all := lw_g (lw_at lw_m11 97 rfl) rfl
theorem q2606 : (Jvm.Cond.soleField "ReorderiumModel" "trapHandler") ∈ lw_all := lw_g (lw_at lw_m11 98 rfl) rfl
theorem q2607 : (Jvm.Cond.lays "ReorderiumModel" "ReorderiumModel" "interruptHandler" "I") ∈ lw_all := lw_g (lw_at lw_m11 99 rfl) rfl
theorem q2608 : (Jvm.Cond.soleField "ReorderiumModel" "interruptHandler") ∈ lw_all := lw_g (lw_at lw_m11 100 rfl) rfl
theorem q2609 : (Jvm.Cond.laysFinal "ReorderiumModel" "ReorderiumModel" "firstRegisters" "[I") ∈ lw_all := lw_g (lw_at lw_m11 101 rfl) rfl
theorem q2610 : (Jvm.Cond.soleField "ReorderiumModel" "firstRegisters") ∈ lw_all := lw_g (lw_at lw_m11 102 rfl) rfl
theorem q2611 : (Jvm.Cond.laysFinal "ReorderiumModel" "ReorderiumModel" "firstWords" "[I") ∈ lw_all := lw_g (lw_at lw_m11 103 rfl) rfl
theorem q2612 : (Jvm.Cond.soleField "ReorderiumModel" "firstWords") ∈ lw_all := lw_g (lw_at lw_m11 104 rfl) rfl
theorem q2613 : (Jvm.Cond.laysFinal "ReorderiumModel" "ReorderiumModel" "times" "[I") ∈ lw_all := lw_g (lw_at lw_m11 105 rfl) rfl
theorem q2614 : (Jvm.Cond.soleField "ReorderiumModel" "times") ∈ lw_all := lw_g (lw_at lw_m11 106 rfl) rfl
theorem q2615 : (Jvm.Cond.laysFinal "ReorderiumModel" "ReorderiumModel" "words" "[I") ∈ lw_all := lw_g (lw_at lw_m11 107 rfl) rfl
theorem q2616 : (Jvm.Cond.soleField "ReorderiumModel" "words") ∈ lw_all := lw_g (lw_at lw_m11 108 rfl) rfl
theorem q2617 : (Jvm.Cond.laysFinal "ReorderiumModel" "ReorderiumModel" "map" "[I") ∈ lw_all := lw_g (lw_at lw_m11 109 rfl) rfl
theorem q2618 : (Jvm.Cond.soleField "ReorderiumModel" "map") ∈ lw_all := lw_g (lw_at lw_m11 110 rfl) rfl
theorem q2619 : (Jvm.Cond.laysFinal "ReorderiumModel" "ReorderiumModel" "retiredMap" "[I") ∈ lw_all := lw_g (lw_at lw_m11 111 rfl) rfl
theorem q2620 : (Jvm.Cond.soleField "ReorderiumModel" "retiredMap") ∈ lw_all := lw_g (lw_at lw_m11 112 rfl) rfl
theorem q2621 : (Jvm.Cond.laysFinal "ReorderiumModel" "ReorderiumModel" "values" "[I") ∈ lw_all := lw_g (lw_at lw_m11 113 rfl) rfl
theorem q2622 : (Jvm.Cond.soleField "ReorderiumModel" "values") ∈ lw_all := lw_g (lw_at lw_m11 114 rfl) rfl
theorem q2623 : (Jvm.Cond.laysFinal "ReorderiumModel" "ReorderiumModel" "isReady" "[Z") ∈ lw_all := lw_g (lw_at lw_m11 115 rfl) rfl
theorem q2624 : (Jvm.Cond.soleField "ReorderiumModel" "isReady") ∈ lw_all := lw_g (lw_at lw_m11 116 rfl) rfl
theorem q2625 : (Jvm.Cond.laysFinal "ReorderiumModel" "ReorderiumModel" "freeLine" "[I") ∈ lw_all := lw_g (lw_at lw_m11 117 rfl) rfl
theorem q2626 : (Jvm.Cond.soleField "ReorderiumModel" "freeLine") ∈ lw_all := lw_g (lw_at lw_m11 118 rfl) rfl
theorem q2627 : (Jvm.Cond.lays "ReorderiumModel" "ReorderiumModel" "freeMany" "I") ∈ lw_all := lw_g (lw_at lw_m11 119 rfl) rfl
theorem q2628 : (Jvm.Cond.soleField "ReorderiumModel" "freeMany") ∈ lw_all := lw_g (lw_at lw_m11 120 rfl) rfl
theorem q2629 : (Jvm.Cond.laysFinal "ReorderiumModel" "ReorderiumModel" "buffer" "[[I") ∈ lw_all := lw_g (lw_at lw_m11 121 rfl) rfl
theorem q2630 : (Jvm.Cond.soleField "ReorderiumModel" "buffer") ∈ lw_all := lw_g (lw_at lw_m11 122 rfl) rfl
theorem q2631 : (Jvm.Cond.lays "ReorderiumModel" "ReorderiumModel" "inBuffer" "I") ∈ lw_all := lw_g (lw_at lw_m11 123 rfl) rfl
theorem q2632 : (Jvm.Cond.soleField "ReorderiumModel" "inBuffer") ∈ lw_all := lw_g (lw_at lw_m11 124 rfl) rfl
theorem q2633 : (Jvm.Cond.laysFinal "ReorderiumModel" "ReorderiumModel" "line" "[[I") ∈ lw_all := lw_g (lw_at lw_m11 125 rfl) rfl
theorem q2634 : (Jvm.Cond.soleField "ReorderiumModel" "line") ∈ lw_all := lw_g (lw_at lw_m11 126 rfl) rfl
theorem q2635 : (Jvm.Cond.lays "ReorderiumModel" "ReorderiumModel" "inLine" "I") ∈ lw_all := lw_g (lw_at lw_m11 127 rfl) rfl
theorem q2636 : (Jvm.Cond.soleField "ReorderiumModel" "inLine") ∈ lw_all := lw_g (lw_at lw_m11 128 rfl) rfl
theorem q2637 : (Jvm.Cond.lays "ReorderiumModel" "ReorderiumModel" "fetchPlace" "I") ∈ lw_all := lw_g (lw_at lw_m11 129 rfl) rfl
theorem q2638 : (Jvm.Cond.soleField "ReorderiumModel" "fetchPlace") ∈ lw_all := lw_g (lw_at lw_m11 130 rfl) rfl
theorem q2639 : (Jvm.Cond.lays "ReorderiumModel" "ReorderiumModel" "isHeld" "Z") ∈ lw_all := lw_g (lw_at lw_m11 131 rfl) rfl
theorem q2640 : (Jvm.Cond.soleField "ReorderiumModel" "isHeld") ∈ lw_all := lw_g (lw_at lw_m11 132 rfl) rfl
theorem q2641 : (Jvm.Cond.laysFinal "ReorderiumModel" "ReorderiumModel" "stack" "[I") ∈ lw_all := lw_g (lw_at lw_m11 133 rfl) rfl
theorem q2642 : (Jvm.Cond.soleField "ReorderiumModel" "stack") ∈ lw_all := lw_g (lw_at lw_m11 134 rfl) rfl
theorem q2643 : (Jvm.Cond.laysFinal "ReorderiumModel" "ReorderiumModel" "counters" "[I") ∈ lw_all := lw_g (lw_at lw_m11 135 rfl) rfl
theorem q2644 : (Jvm.Cond.soleField "ReorderiumModel" "counters") ∈ lw_all := lw_g (lw_at lw_m11 136 rfl) rfl
theorem q2645 : (Jvm.Cond.laysFinal "ReorderiumModel" "ReorderiumModel" "table" "[I") ∈ lw_all := lw_g (lw_at lw_m11 137 rfl) rfl
theorem q2646 : (Jvm.Cond.soleField "ReorderiumModel" "table") ∈ lw_all := lw_g (lw_at lw_m11 138 rfl) rfl
theorem q2647 : (Jvm.Cond.laysFinal "ReorderiumModel" "ReorderiumModel" "marks" "[Z") ∈ lw_all := lw_g (lw_at lw_m11 139 rfl) rfl
theorem q2648 : (Jvm.Cond.soleField "ReorderiumModel" "marks") ∈ lw_all := lw_g (lw_at lw_m11 140 rfl) rfl
theorem q2649 : (Jvm.Cond.laysFinal "ReorderiumModel" "ReorderiumModel" "cached" "[I") ∈ lw_all := lw_g (lw_at lw_m11 141 rfl) rfl
theorem q2650 : (Jvm.Cond.soleField "ReorderiumModel" "cached") ∈ lw_all := lw_g (lw_at lw_m11 142 rfl) rfl
theorem q2651 : (Jvm.Cond.laysFinal "ReorderiumModel" "ReorderiumModel" "askedLines" "[I") ∈ lw_all := lw_g (lw_at lw_m11 143 rfl) rfl
theorem q2652 : (Jvm.Cond.soleField "ReorderiumModel" "askedLines") ∈ lw_all := lw_g (lw_at lw_m11 144 rfl) rfl
theorem q2653 : (Jvm.Cond.laysFinal "ReorderiumModel" "ReorderiumModel" "askedUntil" "[I") ∈ lw_all := lw_g (lw_at lw_m11 145 rfl) rfl
theorem q2654 : (Jvm.Cond.soleField "ReorderiumModel" "askedUntil") ∈ lw_all := lw_g (lw_at lw_m11 146 rfl) rfl
theorem q2655 : (Jvm.Cond.lays "ReorderiumModel" "ReorderiumModel" "asked" "I") ∈ lw_all := lw_g (lw_at lw_m11 147 rfl) rfl
theorem q2656 : (Jvm.Cond.soleField "ReorderiumModel" "asked") ∈ lw_all := lw_g (lw_at lw_m11 148 rfl) rfl
theorem q2657 : (Jvm.Cond.lays "ReorderiumModel" "ReorderiumModel" "cycle" "I") ∈ lw_all := lw_g (lw_at lw_m11 149 rfl) rfl
theorem q2658 : (Jvm.Cond.soleField "ReorderiumModel" "cycle") ∈ lw_all := lw_g (lw_at lw_m11 150 rfl) rfl
theorem q2659 : (Jvm.Cond.lays "ReorderiumModel" "ReorderiumModel" "hasStopped" "Z") ∈ lw_all := lw_g (lw_at lw_m11 151 rfl) rfl
theorem q2660 : (Jvm.Cond.soleField "ReorderiumModel" "hasStopped") ∈ lw_all := lw_g (lw_at lw_m11 152 rfl) rfl
theorem q2661 : (Jvm.Cond.lays "ReorderiumModel" "ReorderiumModel" "isAsked" "Z") ∈ lw_all := lw_g (lw_at lw_m11 153 rfl) rfl
theorem q2662 : (Jvm.Cond.soleField "ReorderiumModel" "isAsked") ∈ lw_all := lw_g (lw_at lw_m11 154 rfl) rfl
theorem q2663 : (Jvm.Cond.lays "ReorderiumModel" "ReorderiumModel" "isHandling" "Z") ∈ lw_all := lw_g (lw_at lw_m11 155 rfl) rfl
theorem q2664 : (Jvm.Cond.soleField "ReorderiumModel" "isHandling") ∈ lw_all := lw_g (lw_at lw_m11 156 rfl) rfl
theorem q2665 : (Jvm.Cond.lays "ReorderiumModel" "ReorderiumModel" "kept" "I") ∈ lw_all := lw_g (lw_at lw_m11 157 rfl) rfl
theorem q2666 : (Jvm.Cond.soleField "ReorderiumModel" "kept") ∈ lw_all := lw_g (lw_at lw_m11 158 rfl) rfl
theorem q2667 : (Jvm.Cond.lays "ReorderiumModel" "ReorderiumModel" "next" "I") ∈ lw_all := lw_g (lw_at lw_m11 159 rfl) rfl
theorem q2668 : (Jvm.Cond.soleField "ReorderiumModel" "next") ∈ lw_all := lw_g (lw_at lw_m11 160 rfl) rfl
theorem q2669 : (Jvm.Cond.lays "ReorderiumModel" "ReorderiumModel" "numbers" "I") ∈ lw_all := lw_g (lw_at lw_m11 161 rfl) rfl
theorem q2670 : (Jvm.Cond.soleField "ReorderiumModel" "numbers") ∈ lw_all := lw_g (lw_at lw_m11 162 rfl) rfl
theorem q2671 : (Jvm.Cond.laysFinal "ReorderiumModel" "ReorderiumModel" "endKinds" "[I") ∈ lw_all := lw_g (lw_at lw_m11 163 rfl) rfl
theorem q2672 : (Jvm.Cond.soleField "ReorderiumModel" "endKinds") ∈ lw_all := lw_g (lw_at lw_m11 164 rfl) rfl
theorem q2673 : (Jvm.Cond.laysFinal "ReorderiumModel" "ReorderiumModel" "endPlaces" "[I") ∈ lw_all := lw_g (lw_at lw_m11 165 rfl) rfl
theorem q2674 : (Jvm.Cond.soleField "ReorderiumModel" "endPlaces") ∈ lw_all := lw_g (lw_at lw_m11 166 rfl) rfl
theorem q2675 : (Jvm.Cond.laysFinal "ReorderiumModel" "ReorderiumModel" "lives" "[[I") ∈ lw_all := lw_g (lw_at lw_m11 167 rfl) rfl
theorem q2676 : (Jvm.Cond.soleField "ReorderiumModel" "lives") ∈ lw_all := lw_g (lw_at lw_m11 168 rfl) rfl
theorem q2677 : (Jvm.Cond.lays "ReorderiumModel" "ReorderiumModel" "ends" "I") ∈ lw_all := lw_g (lw_at lw_m11 169 rfl) rfl
theorem q2678 : (Jvm.Cond.soleField "ReorderiumModel" "ends") ∈ lw_all := lw_g (lw_at lw_m11 170 rfl) rfl
theorem q2679 : (Jvm.Cond.laysFinal "ReorderiumModel" "ReorderiumModel" "lost" "[I") ∈ lw_all := lw_g (lw_at lw_m11 171 rfl) rfl
theorem q2680 : (Jvm.Cond.soleField "ReorderiumModel" "lost") ∈ lw_all := lw_g (lw_at lw_m11 172 rfl) rfl
theorem q2681 : (Jvm.Cond.lays "ReorderiumModel" "ReorderiumModel" "wrong" "I") ∈ lw_all := lw_g (lw_at lw_m11 173 rfl) rfl
theorem q2682 : (Jvm.Cond.soleField "ReorderiumModel" "wrong") ∈ lw_all := lw_g (lw_at lw_m11 174 rfl) rfl
theorem q2683 : (Jvm.Cond.lays "ReorderiumModel" "ReorderiumModel" "early" "I") ∈ lw_all := lw_g (lw_at lw_m11 175 rfl) rfl
theorem q2684 : (Jvm.Cond.soleField "ReorderiumModel" "early") ∈ lw_all := lw_g (lw_at lw_m11 176 rfl) rfl
theorem q2685 : (Jvm.Cond.lays "ReorderiumModel" "ReorderiumModel" "gone" "I") ∈ lw_all := lw_g (lw_at lw_m11 177 rfl) rfl
theorem q2686 : (Jvm.Cond.soleField "ReorderiumModel" "gone") ∈ lw_all := lw_g (lw_at lw_m11 178 rfl) rfl
theorem q2687 : (Jvm.Cond.lays "ReorderiumModel" "ReorderiumModel" "taken" "I") ∈ lw_all := lw_g (lw_at lw_m11 179 rfl) rfl
theorem q2688 : (Jvm.Cond.soleField "ReorderiumModel" "taken") ∈ lw_all := lw_g (lw_at lw_m11 180 rfl) rfl
theorem q2689 : (Jvm.Cond.lays "ReorderiumModel" "ReorderiumModel" "there" "I") ∈ lw_all := lw_g (lw_at lw_m11 181 rfl) rfl
theorem q2690 : (Jvm.Cond.soleField "ReorderiumModel" "there") ∈ lw_all := lw_g (lw_at lw_m11 182 rfl) rfl
theorem q2691 : (Jvm.Cond.lays "ReorderiumModel" "ReorderiumModel" "asking" "I") ∈ lw_all := lw_g (lw_at lw_m11 183 rfl) rfl
theorem q2692 : (Jvm.Cond.soleField "ReorderiumModel" "asking") ∈ lw_all := lw_g (lw_at lw_m11 184 rfl) rfl
theorem q2693 : (Jvm.Cond.lays "ReorderiumModel" "ReorderiumModel" "thrown" "I") ∈ lw_all := lw_g (lw_at lw_m11 185 rfl) rfl
theorem q2694 : (Jvm.Cond.soleField "ReorderiumModel" "thrown") ∈ lw_all := lw_g (lw_at lw_m11 186 rfl) rfl
theorem q2695 : (Jvm.Cond.laysFinal "ReorderiumModel" "ReorderiumModel" "plainRegisters" "[I") ∈ lw_all := lw_g (lw_at lw_m11 187 rfl) rfl
theorem q2696 : (Jvm.Cond.soleField "ReorderiumModel" "plainRegisters") ∈ lw_all := lw_g (lw_at lw_m11 188 rfl) rfl
theorem q2697 : (Jvm.Cond.laysFinal "ReorderiumModel" "ReorderiumModel" "plainWords" "[I") ∈ lw_all := lw_g (lw_at lw_m11 189 rfl) rfl
theorem q2698 : (Jvm.Cond.soleField "ReorderiumModel" "plainWords") ∈ lw_all := lw_g (lw_at lw_m11 190 rfl) rfl
theorem q2699 : (Jvm.Cond.lays "ReorderiumModel" "ReorderiumModel" "plainPlace" "I") ∈ lw_all := lw_g (lw_at lw_m11 191 rfl) rfl
theorem q2700 : (Jvm.Cond.soleField "ReorderiumModel" "plainPlace") ∈ lw_all := lw_g (lw_at lw_m11 192 rfl) rfl
theorem q2701 : (Jvm.Cond.lays "ReorderiumModel" "ReorderiumModel" "plainKept" "I") ∈ lw_all := lw_g (lw_at lw_m11 193 rfl) rfl
theorem q2702 : (Jvm.Cond.soleField "ReorderiumModel" "plainKept") ∈ lw_all := lw_g (lw_at lw_m11 194 rfl) rfl
theorem q2703 : (Jvm.Cond.lays "ReorderiumModel" "ReorderiumModel" "plainHandling" "Z") ∈ lw_all := lw_g (lw_at lw_m11 195 rfl) rfl
theorem q2704 : (Jvm.Cond.soleField "ReorderiumModel" "plainHandling") ∈ lw_all := lw_g (lw_at lw_m11 196 rfl) rfl
theorem q2705 : (Jvm.Cond.lays "ReorderiumModel" "ReorderiumModel" "plainStopped" "Z") ∈ lw_all := lw_g (lw_at lw_m11 197 rfl) rfl
theorem q2706 : (Jvm.Cond.soleField "ReorderiumModel" "plainStopped") ∈ lw_all := lw_g (lw_at lw_m11 198 rfl) rfl
theorem q2707 : (Jvm.Cond.superclass "ReorderiumModel" "java/lang/Object") ∈ lw_all := lw_g (lw_at lw_m11 199 rfl) rfl
theorem q2710 : (Jvm.Cond.instanceMethod ({ cls := "ReorderiumModel", name := "thrown", desc := "()I" } : Jvm.MethodName)) ∈ lw_all := lw_g (lw_at lw_m11 202 rfl) rfl
theorem q2711 : (Jvm.Cond.selects "ReorderiumModel" ({ cls := "ReorderiumModel", name := "thrown", desc := "()I" } : Jvm.MethodName) ({ cls := "ReorderiumModel", name := "thrown", desc := "()I" } : Jvm.MethodName)) ∈ lw_all := lw_g (lw_at lw_m11 203 rfl) rfl
theorem q2712 : (Jvm.Cond.code ({ cls := "ReorderiumModel", name := "thrown", desc := "()I" } : Jvm.MethodName) prog_11_method_2_code (1 : Nat) (Option.some Jvm.ClassFile.FieldType.int)) ∈ lw_all := lw_g (lw_at lw_m11 204 rfl) rfl
theorem q2714 : (Jvm.Cond.instanceMethod ({ cls := "ReorderiumModel", name := "add", desc := "(IIIII)I" } : Jvm.MethodName)) ∈ lw_all := lw_g (lw_at lw_m11 206 rfl) rfl
theorem q2715 : (Jvm.Cond.selects "ReorderiumModel" ({ cls := "ReorderiumModel", name := "add", desc := "(IIIII)I" } : Jvm.MethodName) ({ cls := "ReorderiumModel", name := "add", desc := "(IIIII)I" } : Jvm.MethodName)) ∈ lw_all := lw_g (lw_at lw_m11 207 rfl) rfl
theorem q2716 : (Jvm.Cond.code ({ cls := "ReorderiumModel", name := "add", desc := "(IIIII)I" } : Jvm.MethodName) prog_11_method_6_code (7 : Nat) (Option.some Jvm.ClassFile.FieldType.int)) ∈ lw_all := lw_g (lw_at lw_m11 208 rfl) rfl
theorem q2717 : (Jvm.Cond.methodLink "ReorderiumModel" (129 : Nat) ({ cls := "ReorderiumModel", name := "in", desc := "(III)Z" } : Jvm.MethodName)) ∈ lw_all := lw_g (lw_at lw_m11 209 rfl) rfl
theorem q2718 : (Jvm.Cond.static ({ cls := "ReorderiumModel", name := "in", desc := "(III)Z" } : Jvm.MethodName)) ∈ lw_all := lw_g (lw_at lw_m11 210 rfl) rfl
theorem q2719 : (Jvm.Cond.code ({ cls := "ReorderiumModel", name := "in", desc := "(III)Z" } : Jvm.MethodName) prog_11_method_4_code (3 : Nat) (Option.some Jvm.ClassFile.FieldType.boolean)) ∈ lw_all := lw_g (lw_at lw_m11 211 rfl) rfl
theorem q2721 : (Jvm.Cond.instanceMethod ({ cls := "ReorderiumModel", name := "setRegister", desc := "(II)I" } : Jvm.MethodName)) ∈ lw_all := lw_g (lw_at lw_m11 213 rfl) rfl
theorem q2722 : (Jvm.Cond.selects "ReorderiumModel" ({ cls := "ReorderiumModel", name := "setRegister", desc := "(II)I" } : Jvm.MethodName) ({ cls := "ReorderiumModel", name := "setRegister", desc := "(II)I" } : Jvm.MethodName)) ∈ lw_all := lw_g (lw_at lw_m11 214 rfl) rfl
theorem q2723 : (Jvm.Cond.code ({ cls := "ReorderiumModel", name := "setRegister", desc := "(II)I" } : Jvm.MethodName) prog_11_method_8_code (4 : Nat) (Option.some Jvm.ClassFile.FieldType.int)) ∈ lw_all := lw_g (lw_at lw_m11 215 rfl) rfl
theorem q2724 : (Jvm.Cond.methodLink "ReorderiumModel" (139 : Nat) ({ cls := "ReorderiumModel", name := "cannot", desc := "(Z)Z" } : Jvm.MethodName)) ∈ lw_all := lw_g (lw_at lw_m11 216 rfl) rfl
theorem q2725 : (Jvm.Cond.privateMethod ({ cls := "ReorderiumModel", name := "cannot", desc := "(Z)Z" } : Jvm.MethodName)) ∈ lw_tbl := lw_at lw_m11 217 rfl
theorem q2726 : (Jvm.Cond.instanceMethod ({ cls := "ReorderiumModel", name := "cannot", desc := "(Z)Z" } : Jvm.MethodName)) ∈ lw_all := lw_g (lw_at lw_m11 218 rfl) rfl
theorem q2727 : (Jvm.Cond.code ({ cls := "ReorderiumModel", name := "cannot", desc := "(Z)Z" } : Jvm.MethodName) prog_11_method_7_code (2 : Nat) (Option.some Jvm.ClassFile.FieldType.boolean)) ∈ lw_all := lw_g (lw_at lw_m11 219 rfl) rfl
theorem q2729 : (Jvm.Cond.instanceMethod ({ cls := "ReorderiumModel", name := "setWord", desc := "(II)I" } : Jvm.MethodName)) ∈ lw_all := lw_g (lw_at lw_m11 221 rfl) rfl
theorem q2730 : (Jvm.Cond.selects "ReorderiumModel" ({ cls := "ReorderiumModel", name := "setWord", desc := "(II)I" } : Jvm.MethodName) ({ cls := "ReorderiumModel", name := "setWord", desc := "(II)I" } : Jvm.MethodName)) ∈ lw_all := lw_g (lw_at lw_m11 222 rfl) rfl
theorem q2731 : (Jvm.Cond.code ({ cls := "ReorderiumModel", name := "setWord", desc := "(II)I" } : Jvm.MethodName) prog_11_method_9_code (4 : Nat) (Option.some Jvm.ClassFile.FieldType.int)) ∈ lw_all := lw_g (lw_at lw_m11 223 rfl) rfl
theorem q2733 : (Jvm.Cond.instanceMethod ({ cls := "ReorderiumModel", name := "setWidth", desc := "(I)I" } : Jvm.MethodName)) ∈ lw_all := lw_g (lw_at lw_m11 225 rfl) rfl
theorem q2734 : (Jvm.Cond.selects "ReorderiumModel" ({ cls := "ReorderiumModel", name := "setWidth", desc := "(I)I" } : Jvm.MethodName) ({ cls := "ReorderiumModel", name := "setWidth", desc := "(I)I" } : Jvm.MethodName)) ∈ lw_all := lw_g (lw_at lw_m11 226 rfl) rfl
theorem q2735 : (Jvm.Cond.code ({ cls := "ReorderiumModel", name := "setWidth", desc := "(I)I" } : Jvm.MethodName) prog_11_method_10_code (3 : Nat) (Option.some Jvm.ClassFile.FieldType.int)) ∈ lw_all := lw_g (lw_at lw_m11 227 rfl) rfl
theorem q2737 : (Jvm.Cond.instanceMethod ({ cls := "ReorderiumModel", name := "setBuffer", desc := "(I)I" } : Jvm.MethodName)) ∈ lw_all := lw_g (lw_at lw_m11 229 rfl) rfl
theorem q2738 : (Jvm.Cond.selects "ReorderiumModel" ({ cls := "ReorderiumModel", name := "setBuffer", desc := "(I)I" } : Jvm.MethodName) ({ cls := "ReorderiumModel", name := "setBuffer", desc := "(I)I" } : Jvm.MethodName)) ∈ lw_all := lw_g (lw_at lw_m11 230 rfl) rfl
theorem q2739 : (Jvm.Cond.code ({ cls := "ReorderiumModel", name := "setBuffer", desc := "(I)I" } : Jvm.MethodName) prog_11_method_11_code (3 : Nat) (Option.some Jvm.ClassFile.FieldType.int)) ∈ lw_all := lw_g (lw_at lw_m11 231 rfl) rfl
theorem q2741 : (Jvm.Cond.instanceMethod ({ cls := "ReorderiumModel", name := "setQueue", desc := "(I)I" } : Jvm.MethodName)) ∈ lw_all := lw_g (lw_at lw_m11 233 rfl) rfl
theorem q2742 : (Jvm.Cond.selects "ReorderiumModel" ({ cls := "ReorderiumModel", name := "setQueue", desc := "(I)I" } : Jvm.MethodName) ({ cls := "ReorderiumModel", name := "setQueue", desc := "(I)I" } : Jvm.MethodName)) ∈ lw_all := lw_g (lw_at lw_m11 234 rfl) rfl
theorem q2743 : (Jvm.Cond.code ({ cls := "ReorderiumModel", name := "setQueue", desc := "(I)I" } : Jvm.MethodName) prog_11_method_12_code (3 : Nat) (Option.some Jvm.ClassFile.FieldType.int)) ∈ lw_all := lw_g (lw_at lw_m11 235 rfl) rfl
theorem q2745 : (Jvm.Cond.instanceMethod ({ cls := "ReorderiumModel", name := "setInner", desc := "(I)I" } : Jvm.MethodName)) ∈ lw_all := lw_g (lw_at lw_m11 237 rfl) rfl
theorem q2746 : (Jvm.Cond.selects "ReorderiumModel" ({ cls := "ReorderiumModel", name := "setInner", desc := "(I)I" } : Jvm.MethodName) ({ cls := "ReorderiumModel", name := "setInner", desc := "(I)I" } : Jvm.MethodName)) ∈ lw_all := lw_g (lw_at lw_m11 238 rfl) rfl
theorem q2747 : (Jvm.Cond.code ({ cls := "ReorderiumModel", name := "setInner", desc := "(I)I" } : Jvm.MethodName) prog_11_method_13_code (3 : Nat) (Option.some Jvm.ClassFile.FieldType.int)) ∈ lw_all := lw_g (lw_at lw_m11 239 rfl) rfl
theorem q2749 : (Jvm.Cond.instanceMethod ({ cls := "ReorderiumModel", name := "setHandlers", desc := "(II)I" } : Jvm.MethodName)) ∈ lw_all := lw_g (lw_at lw_m12 1 rfl) rfl
theorem q2750 : (Jvm.Cond.selects "ReorderiumModel" ({ cls := "ReorderiumModel", name := "setHandlers", desc := "(II)I" } : Jvm.MethodName) ({ cls := "ReorderiumModel", name := "setHandlers", desc := "(II)I" } : Jvm.MethodName)) ∈ lw_all := lw_g (lw_at lw_m12 2 rfl) rfl
theorem q2751 : (Jvm.Cond.code ({ cls := "ReorderiumModel", name := "setHandlers", desc := "(II)I" } : Jvm.MethodName) prog_11_method_14_code (4 : Nat) (Option.some Jvm.ClassFile.FieldType.int)) ∈ lw_all := lw_g (lw_at lw_m12 3 rfl) rfl
theorem q2753 : (Jvm.Cond.instanceMethod ({ cls := "ReorderiumModel", name := "setTime", desc := "(II)I" } : Jvm.MethodName)) ∈ lw_all := lw_g (lw_at lw_m12 5 rfl) rfl
theorem q2754 : (Jvm.Cond.selects "ReorderiumModel" ({ cls := "ReorderiumModel", name := "setTime", desc := "(II)I" } : Jvm.MethodName) ({ cls := "ReorderiumModel", name := "setTime", desc := "(II)I" } : Jvm.MethodName)) ∈ lw_all := lw_g (lw_at lw_m12 6 rfl) rfl
theorem q2755 : (Jvm.Cond.code ({ cls := "ReorderiumModel", name := "setTime", desc := "(II)I" } : Jvm.MethodName) prog_11_method_15_code (4 : Nat) (Option.some Jvm.ClassFile.FieldType.int)) ∈ lw_all := lw_g (lw_at lw_m12 7 rfl) rfl
theorem q2757 : (Jvm.Cond.instanceMethod ({ cls := "ReorderiumModel", name := "interrupt", desc := "()Z" } : Jvm.MethodName)) ∈ lw_all := lw_g (lw_at lw_m12 9 rfl) rfl
theorem q2758 : (Jvm.Cond.selects "ReorderiumModel" ({ cls := "ReorderiumModel", name := "interrupt", desc := "()Z" } : Jvm.MethodName) ({ cls := "ReorderiumModel", name := "interrupt", desc := "()Z" } : Jvm.MethodName)) ∈ lw_all := lw_g (lw_at lw_m12 10 rfl) rfl
theorem q2759 : (Jvm.Cond.code ({ cls := "ReorderiumModel", name := "interrupt", desc := "()Z" } : Jvm.MethodName) prog_11_method_16_code (2 : Nat) (Option.some Jvm.ClassFile.FieldType.boolean)) ∈ lw_all := lw_g (lw_at lw_m12 11 rfl) rfl
theorem q2761 : (Jvm.Cond.instanceMethod ({ cls := "ReorderiumModel", name := "run", desc := "(I)I" } : Jvm.MethodName)) ∈ lw_all := lw_g (lw_at lw_m12 13 rfl) rfl
theorem q2762 : (Jvm.Cond.selects "ReorderiumModel" ({ cls := "ReorderiumModel", name := "run", desc := "(I)I" } : Jvm.MethodName) ({ cls := "ReorderiumModel", name := "run", desc := "(I)I" } : Jvm.MethodName)) ∈ lw_all := lw_g (lw_at lw_m12 14 rfl) rfl
theorem q2763 : (Jvm.Cond.code ({ cls := "ReorderiumModel", name := "run", desc := "(I)I" } : Jvm.MethodName) prog_11_method_17_code (4 : Nat) (Option.some Jvm.ClassFile.FieldType.int)) ∈ lw_all := lw_g (lw_at lw_m12 15 rfl) rfl
theorem q2764 : (Jvm.Cond.methodLink "ReorderiumModel" (153 : Nat) ({ cls := "ReorderiumModel", name := "cycles", desc := "()V" } : Jvm.MethodName)) ∈ lw_all := lw_g (lw_at lw_m12 16 rfl) rfl
theorem q2765 : (Jvm.Cond.privateMethod ({ cls := "ReorderiumModel", name := "cycles", desc := "()V" } : Jvm.MethodName)) ∈ lw_tbl := lw_at lw_m12 17 rfl
theorem q2766 : (Jvm.Cond.instanceMethod ({ cls := "ReorderiumModel", name := "cycles", desc := "()V" } : Jvm.MethodName)) ∈ lw_all := lw_g (lw_at lw_m12 18 rfl) rfl
theorem q2767 : (Jvm.Cond.code ({ cls := "ReorderiumModel", name := "cycles", desc := "()V" } : Jvm.MethodName) prog_11_method_18_code (1 : Nat) (Option.none : Option Jvm.ClassFile.FieldType)) ∈ lw_all := lw_g (lw_at lw_m12 19 rfl) rfl
theorem q2768 : (Jvm.Cond.methodLink "ReorderiumModel" (156 : Nat) ({ cls := "ReorderiumModel", name := "answers", desc := "()V" } : Jvm.MethodName)) ∈ lw_all := lw_g (lw_at lw_m12 20 rfl) rfl
theorem q2769 : (Jvm.Cond.privateMethod ({ cls := "ReorderiumModel", name := "answers", desc := "()V" } : Jvm.MethodName)) ∈ lw_tbl := lw_at lw_m12 21 rfl
theorem q2770 : (Jvm.Cond.instanceMethod ({ cls := "ReorderiumModel", name := "answers", desc := "()V" } : Jvm.MethodName)) ∈ lw_all := lw_g (lw_at lw_m12 22 rfl) rfl
theorem q2771 : (Jvm.Cond.code ({ cls := "ReorderiumModel", name := "answers", desc := "()V" } : Jvm.MethodName) prog_11_method_39_code (4 : Nat) (Option.none : Option Jvm.ClassFile.FieldType)) ∈ lw_all := lw_g (lw_at lw_m12 23 rfl) rfl
theorem q2772 : (Jvm.Cond.methodLink "ReorderiumModel" (159 : Nat) ({ cls := "ReorderiumModel", name := "endings", desc := "()V" } : Jvm.MethodName)) ∈ lw_all := lw_g (lw_at lw_m12 24 rfl) rfl
theorem q2773 : (Jvm.Cond.privateMethod ({ cls := "ReorderiumModel", name := "endings", desc := "()V" } : Jvm.MethodName)) ∈ lw_tbl := lw_at lw_m12 25 rfl
theorem q2774 : (Jvm.Cond.instanceMethod ({ cls := "ReorderiumModel", name := "endings", desc := "()V" } : Jvm.MethodName)) ∈ lw_all := lw_g (lw_at lw_m12 26 rfl) rfl
theorem q2775 : (Jvm.Cond.code ({ cls := "ReorderiumModel", name := "endings", desc := "()V" } : Jvm.MethodName) prog_11_method_45_code (4 : Nat) (Option.none : Option Jvm.ClassFile.FieldType)) ∈ lw_all := lw_g (lw_at lw_m12 27 rfl) rfl
theorem q2776 : (Jvm.Cond.methodLink "ReorderiumModel" (286 : Nat) ({ cls := "ReorderiumModel", name := "ends", desc := "(I)V" } : Jvm.MethodName)) ∈ lw_all := lw_g (lw_at lw_m12 28 rfl) rfl
theorem q2777 : (Jvm.Cond.privateMethod ({ cls := "ReorderiumModel", name := "ends", desc := "(I)V" } : Jvm.MethodName)) ∈ lw_tbl := lw_at lw_m12 29 rfl
theorem q2778 : (Jvm.Cond.instanceMethod ({ cls := "ReorderiumModel", name := "ends", desc := "(I)V" } : Jvm.MethodName)) ∈ lw_all := lw_g (lw_at lw_m12 30 rfl) rfl
theorem q2779 : (Jvm.Cond.code ({ cls := "ReorderiumModel", name := "ends", desc := "(I)V" } : Jvm.MethodName) prog_11_method_44_code (7 : Nat) (Option.none : Option Jvm.ClassFile.FieldType)) ∈ lw_all := lw_g (lw_at lw_m12 31 rfl) rfl
theorem q2780 : (Jvm.Cond.methodLink "ReorderiumModel" (201 : Nat) ({ cls := "ReorderiumModel", name := "codeOf", desc := "([I)I" } : Jvm.MethodName)) ∈ lw_all := lw_g (lw_at lw_m12 32 rfl) rfl
theorem q2781 : (Jvm.Cond.privateMethod ({ cls := "ReorderiumModel", name := "codeOf", desc := "([I)I" } : Jvm.MethodName)) ∈ lw_tbl := lw_at lw_m12 33 rfl
theorem q2782 : (Jvm.Cond.instanceMethod ({ cls := "ReorderiumModel", name := "codeOf", desc := "([I)I" } : Jvm.MethodName)) ∈ lw_all := lw_g (lw_at lw_m12 34 rfl) rfl
theorem q2783 : (Jvm.Cond.code ({ cls := "ReorderiumModel", name := "codeOf", desc := "([I)I" } : Jvm.MethodName) prog_11_method_19_code (2 : Nat) (Option.some Jvm.ClassFile.FieldType.int)) ∈ lw_all := lw_g (lw_at lw_m12 35 rfl) rfl
theorem q2784 : (Jvm.Cond.methodLink "ReorderiumModel" (209 : Nat) ({ cls := "ReorderiumModel", name := "hasD", desc := "(I)Z" } : Jvm.MethodName)) ∈ lw_all := lw_g (lw_at lw_m12 36 rfl) rfl
theorem q2785 : (Jvm.Cond.static ({ cls := "ReorderiumModel", name := "hasD", desc := "(I)Z" } : Jvm.MethodName)) ∈ lw_all := lw_g (lw_at lw_m12 37 rfl) rfl
theorem q2786 : (Jvm.Cond.code ({ cls := "ReorderiumModel", name := "hasD", desc := "(I)Z" } : Jvm.MethodName) prog_11_method_20_code (1 : Nat) (Option.some Jvm.ClassFile.FieldType.boolean)) ∈ lw_all := lw_g (lw_at lw_m12 38 rfl) rfl
theorem q2787 : (Jvm.Cond.methodLink "ReorderiumModel" (262 : Nat) ({ cls := "ReorderiumModel", name := "result", desc := "([I)I" } : Jvm.MethodName)) ∈ lw_all := lw_g (lw_at lw_m12 39 rfl) rfl
theorem q2788 : (Jvm.Cond.privateMethod ({ cls := "ReorderiumModel", name := "result", desc := "([I)I" } : Jvm.MethodName)) ∈ lw_tbl := lw_at lw_m12 40 rfl
theorem q2789 : (Jvm.Cond.instanceMethod ({ cls := "ReorderiumModel", name := "result", desc := "([I)I" } : Jvm.MethodName)) ∈ lw_all := lw_g (lw_at lw_m12 41 rfl) rfl
theorem q2790 : (Jvm.Cond.code ({ cls := "ReorderiumModel", name := "result", desc := "([I)I" } : Jvm.MethodName) prog_11_method_41_code (4 : Nat) (Option.some Jvm.ClassFile.FieldType.int)) ∈ lw_all := lw_g (lw_at lw_m12 42 rfl) rfl
theorem q2791 : (Jvm.Cond.methodLink "ReorderiumModel" (231 : Nat) ({ cls := "ReorderiumModel", name := "isStore", desc := "(I)Z" } : Jvm.MethodName)) ∈ lw_all := lw_g (lw_at lw_m12 43 rfl) rfl
theorem q2792 : (Jvm.Cond.static ({ cls := "ReorderiumModel", name := "isStore", desc := "(I)Z" } : Jvm.MethodName)) ∈ lw_all := lw_g (lw_at lw_m12 44 rfl) rfl
theorem q2793 : (Jvm.Cond.code ({ cls := "ReorderiumModel", name := "isStore", desc := "(I)Z" } : Jvm.MethodName) prog_11_method_22_code (1 : Nat) (Option.some Jvm.ClassFile.FieldType.boolean)) ∈ lw_all := lw_g (lw_at lw_m12 45 rfl) rfl
theorem q2794 : (Jvm.Cond.methodLink "ReorderiumModel" (225 : Nat) ({ cls := "ReorderiumModel", name := "isAddress", desc := "(I)Z" } : Jvm.MethodName)) ∈ lw_all := lw_g (lw_at lw_m12 46 rfl) rfl
theorem q2795 : (Jvm.Cond.static ({ cls := "ReorderiumModel", name := "isAddress", desc := "(I)Z" } : Jvm.MethodName)) ∈ lw_all := lw_g (lw_at lw_m12 47 rfl) rfl
theorem q2796 : (Jvm.Cond.code ({ cls := "ReorderiumModel", name := "isAddress", desc := "(I)Z" } : Jvm.MethodName) prog_11_method_24_code (1 : Nat) (Option.some Jvm.ClassFile.FieldType.boolean)) ∈ lw_all := lw_g (lw_at lw_m12 48 rfl) rfl
theorem q2797 : (Jvm.Cond.methodLink "ReorderiumModel" (265 : Nat) ({ cls := "ReorderiumModel", name := "wrongLoad", desc := "(I)I" } : Jvm.MethodName)) ∈ lw_all := lw_g (lw_at lw_m12 49 rfl) rfl
theorem q2798 : (Jvm.Cond.privateMethod ({ cls := "ReorderiumModel", name := "wrongLoad", desc := "(I)I" } : Jvm.MethodName)) ∈ lw_tbl := lw_at lw_m12 50 rfl
theorem q2799 : (Jvm.Cond.instanceMethod ({ cls := "ReorderiumModel", name := "wrongLoad", desc := "(I)I" } : Jvm.MethodName)) ∈ lw_all := lw_g (lw_at lw_m12 51 rfl) rfl
theorem q2800 : (Jvm.Cond.code ({ cls := "ReorderiumModel", name := "wrongLoad", desc := "(I)I" } : Jvm.MethodName) prog_11_method_43_code (6 : Nat) (Option.some Jvm.ClassFile.FieldType.int)) ∈ lw_all := lw_g (lw_at lw_m12 52 rfl) rfl
theorem q2801 : (Jvm.Cond.methodLink "ReorderiumModel" (271 : Nat) ({ cls := "ReorderiumModel", name := "stackAs", desc := "([II)V" } : Jvm.MethodName)) ∈ lw_all := lw_g (lw_at lw_m12 53 rfl) rfl
theorem q2802 : (Jvm.Cond.privateMethod ({ cls := "ReorderiumModel", name := "stackAs", desc := "([II)V" } : Jvm.MethodName)) ∈ lw_tbl := lw_at lw_m12 54 rfl
theorem q2803 : (Jvm.Cond.instanceMethod ({ cls := "ReorderiumModel", name := "stackAs", desc := "([II)V" } : Jvm.MethodName)) ∈ lw_all := lw_g (lw_at lw_m12 55 rfl) rfl
theorem q2804 : (Jvm.Cond.code ({ cls := "ReorderiumModel", name := "stackAs", desc := "([II)V" } : Jvm.MethodName) prog_11_method_28_code (4 : Nat) (Option.none : Option Jvm.ClassFile.FieldType)) ∈ lw_all := lw_g (lw_at lw_m12 56 rfl) rfl
theorem q2805 : (Jvm.Cond.methodLink "ReorderiumModel" (274 : Nat) ({ cls := "ReorderiumModel", name := "goesOn", desc := "(I)V" } : Jvm.MethodName)) ∈ lw_all := lw_g (lw_at lw_m12 57 rfl) rfl
theorem q2806 : (Jvm.Cond.privateMethod ({ cls := "ReorderiumModel", name := "goesOn", desc := "(I)V" } : Jvm.MethodName)) ∈ lw_tbl := lw_at lw_m12 58 rfl
theorem q2807 : (Jvm.Cond.instanceMethod ({ cls := "ReorderiumModel", name := "goesOn", desc := "(I)V" } : Jvm.MethodName)) ∈ lw_all := lw_g (lw_at lw_m12 59 rfl) rfl
theorem q2808 : (Jvm.Cond.code ({ cls := "ReorderiumModel", name := "goesOn", desc := "(I)V" } : Jvm.MethodName) prog_11_method_30_code (2 : Nat) (Option.none : Option Jvm.ClassFile.FieldType)) ∈ lw_all := lw_g (lw_at lw_m12 60 rfl) rfl
theorem q2809 : (Jvm.Cond.methodLink "ReorderiumModel" (277 : Nat) ({ cls := "ReorderiumModel", name := "throwsFrom", desc := "(I)V" } : Jvm.MethodName)) ∈ lw_all := lw_g (lw_at lw_m12 61 rfl) rfl
theorem q2810 : (Jvm.Cond.privateMethod ({ cls := "ReorderiumModel", name := "throwsFrom", desc := "(I)V" } : Jvm.MethodName)) ∈ lw_tbl := lw_at lw_m12 62 rfl
theorem q2811 : (Jvm.Cond.instanceMethod ({ cls := "ReorderiumModel", name := "throwsFrom", desc := "(I)V" } : Jvm.MethodName)) ∈ lw_all := lw_g (lw_at lw_m12 63 rfl) rfl
theorem q2812 : (Jvm.Cond.code ({ cls := "ReorderiumModel", name := "throwsFrom", desc := "(I)V" } : Jvm.MethodName) prog_11_method_40_code (4 : Nat) (Option.none : Option Jvm.ClassFile.FieldType)) ∈ lw_all := lw_g (lw_at lw_m12 64 rfl) rfl
theorem q2813 : (Jvm.Cond.methodLink "ReorderiumModel" (256 : Nat) ({ cls := "java/lang/Math", name := "min", desc := "(II)I" } : Jvm.MethodName)) ∈ lw_all := lw_g (lw_at lw_m12 65 rfl) rfl
theorem q2814 : (Jvm.Cond.methodLink "ReorderiumModel" (280 : Nat) ({ cls := "ReorderiumModel", name := "finds", desc := "([II)V" } : Jvm.MethodName)) ∈ lw_all := lw_g (lw_at lw_m12 66 rfl) rfl
theorem q2815 : (Jvm.Cond.privateMethod ({ cls := "ReorderiumModel", name := "finds", desc := "([II)V" } : Jvm.MethodName)) ∈ lw_tbl := lw_at lw_m12 67 rfl
theorem q2816 : (Jvm.Cond.instanceMethod ({ cls := "ReorderiumModel", name := "finds", desc := "([II)V" } : Jvm.MethodName)) ∈ lw_all := lw_g (lw_at lw_m12 68 rfl) rfl
theorem q2817 : (Jvm.Cond.code ({ cls := "ReorderiumModel", name := "finds", desc := "([II)V" } : Jvm.MethodName) prog_11_method_42_code (6 : Nat) (Option.none : Option Jvm.ClassFile.FieldType)) ∈ lw_all := lw_g (lw_at lw_m12 69 rfl) rfl
theorem q2818 : (Jvm.Cond.methodLink "ReorderiumModel" (162 : Nat) ({ cls := "ReorderiumModel", name := "retires", desc := "()V" } : Jvm.MethodName)) ∈ lw_all := lw_g (lw_at lw_m12 70 rfl) rfl
theorem q2819 : (Jvm.Cond.privateMethod ({ cls := "ReorderiumModel", name := "retires", desc := "()V" } : Jvm.MethodName)) ∈ lw_tbl := lw_at lw_m12 71 rfl
theorem q2820 : (Jvm.Cond.instanceMethod ({ cls := "ReorderiumModel", name := "retires", desc := "()V" } : Jvm.MethodName)) ∈ lw_all := lw_g (lw_at lw_m12 72 rfl) rfl
theorem q2821 : (Jvm.Cond.code ({ cls := "ReorderiumModel", name := "retires", desc := "()V" } : Jvm.MethodName) prog_11_method_51_code (6 : Nat) (Option.none : Option Jvm.ClassFile.FieldType)) ∈ lw_all := lw_g (lw_at lw_m12 73 rfl) rfl
theorem q2822 : (Jvm.Cond.methodLink "ReorderiumModel" (297 : Nat) ({ cls := "ReorderiumModel", name := "tellsEnd", desc := "(II[I)V" } : Jvm.MethodName)) ∈ lw_all := lw_g (lw_at lw_m12 74 rfl) rfl
theorem q2823 : (Jvm.Cond.privateMethod ({ cls := "ReorderiumModel", name := "tellsEnd", desc := "(II[I)V" } : Jvm.MethodName)) ∈ lw_tbl := lw_at lw_m12 75 rfl
theorem q2824 : (Jvm.Cond.instanceMethod ({ cls := "ReorderiumModel", name := "tellsEnd", desc := "(II[I)V" } : Jvm.MethodName)) ∈ lw_all := lw_g (lw_at lw_m12 76 rfl) rfl
theorem q2825 : (Jvm.Cond.code ({ cls := "ReorderiumModel", name := "tellsEnd", desc := "(II[I)V" } : Jvm.MethodName) prog_11_method_46_code (4 : Nat) (Option.none : Option Jvm.ClassFile.FieldType)) ∈ lw_all := lw_g (lw_at lw_m12 77 rfl) rfl
theorem q2826 : (Jvm.Cond.methodLink "ReorderiumModel" (212 : Nat) ({ cls := "ReorderiumModel", name := "isQueued", desc := "(I)Z" } : Jvm.MethodName)) ∈ lw_all := lw_g (lw_at lw_m12 78 rfl) rfl
theorem q2827 : (Jvm.Cond.static ({ cls := "ReorderiumModel", name := "isQueued", desc := "(I)Z" } : Jvm.MethodName)) ∈ lw_all := lw_g (lw_at lw_m12 79 rfl) rfl
theorem q2828 : (Jvm.Cond.code ({ cls := "ReorderiumModel", name := "isQueued", desc := "(I)Z" } : Jvm.MethodName) prog_11_method_21_code (1 : Nat) (Option.some Jvm.ClassFile.FieldType.boolean)) ∈ lw_all := lw_g (lw_at lw_m12 80 rfl) rfl
theorem q2829 : (Jvm.Cond.methodLink "ReorderiumModel" (301 : Nat) ({ cls := "ReorderiumModel", name := "handles", desc := "(II)V" } : Jvm.MethodName)) ∈ lw_all := lw_g (lw_at lw_m12 81 rfl) rfl
theorem q2830 : (Jvm.Cond.privateMethod ({ cls := "ReorderiumModel", name := "handles", desc := "(II)V" } : Jvm.MethodName)) ∈ lw_tbl := lw_at lw_m12 82 rfl
theorem q2831 : (Jvm.Cond.instanceMethod ({ cls := "ReorderiumModel", name := "handles", desc := "(II)V" } : Jvm.MethodName)) ∈ lw_all := lw_g (lw_at lw_m12 83 rfl) rfl
theorem q2832 : (Jvm.Cond.code ({ cls := "ReorderiumModel", name := "handles", desc := "(II)V" } : Jvm.MethodName) prog_11_method_47_code (3 : Nat) (Option.none : Option Jvm.ClassFile.FieldType)) ∈ lw_all := lw_g (lw_at lw_m12 84 rfl) rfl
theorem q2833 : (Jvm.Cond.methodLink "ReorderiumModel" (310 : Nat) ({ cls := "ReorderiumModel", name := "loses", desc := "(C)V" } : Jvm.MethodName)) ∈ lw_all := lw_g (lw_at lw_m12 85 rfl) rfl
theorem q2834 : (Jvm.Cond.privateMethod ({ cls := "ReorderiumModel", name := "loses", desc := "(C)V" } : Jvm.MethodName)) ∈ lw_tbl := lw_at lw_m12 86 rfl
theorem q2835 : (Jvm.Cond.instanceMethod ({ cls := "ReorderiumModel", name := "loses", desc := "(C)V" } : Jvm.MethodName)) ∈ lw_all := lw_g (lw_at lw_m12 87 rfl) rfl
theorem q2836 : (Jvm.Cond.code ({ cls := "ReorderiumModel", name := "loses", desc := "(C)V" } : Jvm.MethodName) prog_11_method_53_code (2 : Nat) (Option.none : Option Jvm.ClassFile.FieldType)) ∈ lw_all := lw_g (lw_at lw_m12 88 rfl) rfl
theorem q2837 : (Jvm.Cond.methodLink "ReorderiumModel" (324 : Nat) ({ cls := "ReorderiumModel", name := "reason", desc := "(C)I" } : Jvm.MethodName)) ∈ lw_all := lw_g (lw_at lw_m12 89 rfl) rfl
theorem q2838 : (Jvm.Cond.static ({ cls := "ReorderiumModel", name := "reason", desc := "(C)I" } : Jvm.MethodName)) ∈ lw_all := lw_g (lw_at lw_m12 90 rfl) rfl
theorem q2839 : (Jvm.Cond.code ({ cls := "ReorderiumModel", name := "reason", desc := "(C)I" } : Jvm.MethodName) prog_11_method_52_code (1 : Nat) (Option.some Jvm.ClassFile.FieldType.int)) ∈ lw_all := lw_g (lw_at lw_m12 91 rfl) rfl
theorem q2840 : (Jvm.Cond.methodLink "ReorderiumModel" (314 : Nat) ({ cls := "ReorderiumModel", name := "traps", desc := "([II)V" } : Jvm.MethodName)) ∈ lw_all := lw_g (lw_at lw_m12 92 rfl) rfl
theorem q2841 : (Jvm.Cond.privateMethod ({ cls := "ReorderiumModel", name := "traps", desc := "([II)V" } : Jvm.MethodName)) ∈ lw_tbl := lw_at lw_m12 93 rfl
theorem q2842 : (Jvm.Cond.instanceMethod ({ cls := "ReorderiumModel", name := "traps", desc := "([II)V" } : Jvm.MethodName)) ∈ lw_all := lw_g (lw_at lw_m12 94 rfl) rfl
theorem q2843 : (Jvm.Cond.code ({ cls := "ReorderiumModel", name := "traps", desc := "([II)V" } : Jvm.MethodName) prog_11_method_48_code (4 : Nat) (Option.none : Option Jvm.ClassFile.FieldType)) ∈ lw_all := lw_g (lw_at lw_m12 95 rfl) rfl
theorem q2844 : (Jvm.Cond.methodLink "ReorderiumModel" (317 : Nat) ({ cls := "ReorderiumModel", name := "leaves", desc := "()V" } : Jvm.MethodName)) ∈ lw_all := lw_g (lw_at lw_m12 96 rfl) rfl
theorem q2845 : (Jvm.Cond.privateMethod ({ cls := "ReorderiumModel", name := "leaves", desc := "()V" } : Jvm.MethodName)) ∈ lw_tbl := lw_at lw_m12 97 rfl
theorem q2846 : (Jvm.Cond.instanceMethod ({ cls := "ReorderiumModel", name := "leaves", desc := "()V" } : Jvm.MethodName)) ∈ lw_all := lw_g (lw_at lw_m12 98 rfl) rfl
theorem q2847 : (Jvm.Cond.code ({ cls := "ReorderiumModel", name := "leaves", desc := "()V" } : Jvm.MethodName) prog_11_method_49_code (3 : Nat) (Option.none : Option Jvm.ClassFile.FieldType)) ∈ lw_all := lw_g (lw_at lw_m12 99 rfl) rfl
theorem q2848 : (Jvm.Cond.methodLink "ReorderiumModel" (320 : Nat) ({ cls := "ReorderiumModel", name := "retire", desc := "([I)V" } : Jvm.MethodName)) ∈ lw_all := lw_g (lw_at lw_m12 100 rfl) rfl
theorem q2849 : (Jvm.Cond.privateMethod ({ cls := "ReorderiumModel", name := "retire", desc := "([I)V" } : Jvm.MethodName)) ∈ lw_tbl := lw_at lw_m12 101 rfl
theorem q2850 : (Jvm.Cond.instanceMethod ({ cls := "ReorderiumModel", name := "retire", desc := "([I)V" } : Jvm.MethodName)) ∈ lw_all := lw_g (lw_at lw_m12 102 rfl) rfl
theorem q2851 : (Jvm.Cond.code ({ cls := "ReorderiumModel", name := "retire", desc := "([I)V" } : Jvm.MethodName) prog_11_method_50_code (8 : Nat) (Option.none : Option Jvm.ClassFile.FieldType)) ∈ lw_all := lw_g (lw_at lw_m12 103 rfl) rfl
theorem q2852 : (Jvm.Cond.constant "ReorderiumModel" (305 : Nat) (-65536 : Int32)) ∈ lw_all := lw_g (lw_at lw_m12 104 rfl) rfl
theorem q2853 : (Jvm.Cond.constant "ReorderiumModel" (306 : Nat) (65535 : Int32)) ∈ lw_all := lw_g (lw_at lw_m12 105 rfl) rfl
theorem q2854 : (Jvm.Cond.methodLink "ReorderiumModel" (307 : Nat) ({ cls := "java/lang/Math", name := "max", desc := "(II)I" } : Jvm.MethodName)) ∈ lw_all := lw_g (lw_at lw_m12 106 rfl) rfl
theorem q2855 : (Jvm.Cond.methodLink "ReorderiumModel" (165 : Nat) ({ cls := "ReorderiumModel", name := "begins", desc := "()V" } : Jvm.MethodName)) ∈ lw_all := lw_g (lw_at lw_m12 107 rfl) rfl
theorem q2856 : (Jvm.Cond.privateMethod ({ cls := "ReorderiumModel", name := "begins", desc := "()V" } : Jvm.MethodName)) ∈ lw_tbl := lw_at lw_m12 108 rfl
theorem q2857 : (Jvm.Cond.instanceMethod ({ cls := "ReorderiumModel", name := "begins", desc := "()V" } : Jvm.MethodName)) ∈ lw_all := lw_g (lw_at lw_m12 109 rfl) rfl
theorem q2858 : (Jvm.Cond.code ({ cls := "ReorderiumModel", name := "begins", desc := "()V" } : Jvm.MethodName) prog_11_method_38_code (9 : Nat) (Option.none : Option Jvm.ClassFile.FieldType)) ∈ lw_all := lw_g (lw_at lw_m12 110 rfl) rfl
theorem q2859 : (Jvm.Cond.methodLink "ReorderiumModel" (246 : Nat) ({ cls := "ReorderiumModel", name := "hasOperands", desc := "([II)Z" } : Jvm.MethodName)) ∈ lw_all := lw_g (lw_at lw_m12 111 rfl) rfl
theorem q2860 : (Jvm.Cond.privateMethod ({ cls := "ReorderiumModel", name := "hasOperands", desc := "([II)Z" } : Jvm.MethodName)) ∈ lw_tbl := lw_at lw_m12 112 rfl
theorem q2861 : (Jvm.Cond.instanceMethod ({ cls := "ReorderiumModel", name := "hasOperands", desc := "([II)Z" } : Jvm.MethodName)) ∈ lw_all := lw_g (lw_at lw_m12 113 rfl) rfl
theorem q2862 : (Jvm.Cond.code ({ cls := "ReorderiumModel", name := "hasOperands", desc := "([II)Z" } : Jvm.MethodName) prog_11_method_34_code (5 : Nat) (Option.some Jvm.ClassFile.FieldType.boolean)) ∈ lw_all := lw_g (lw_at lw_m12 114 rfl) rfl
theorem q2863 : (Jvm.Cond.methodLink "ReorderiumModel" (228 : Nat) ({ cls := "ReorderiumModel", name := "starts", desc := "([II)V" } : Jvm.MethodName)) ∈ lw_all := lw_g (lw_at lw_m12 115 rfl) rfl
theorem q2864 : (Jvm.Cond.privateMethod ({ cls := "ReorderiumModel", name := "starts", desc := "([II)V" } : Jvm.MethodName)) ∈ lw_tbl := lw_at lw_m12 116 rfl
theorem q2865 : (Jvm.Cond.instanceMethod ({ cls := "ReorderiumModel", name := "starts", desc := "([II)V" } : Jvm.MethodName)) ∈ lw_all := lw_g (lw_at lw_m12 117 rfl) rfl
theorem q2866 : (Jvm.Cond.code ({ cls := "ReorderiumModel", name := "starts", desc := "([II)V" } : Jvm.MethodName) prog_11_method_35_code (3 : Nat) (Option.none : Option Jvm.ClassFile.FieldType)) ∈ lw_all := lw_g (lw_at lw_m12 118 rfl) rfl
theorem q2867 : (Jvm.Cond.methodLink "ReorderiumModel" (250 : Nat) ({ cls := "ReorderiumModel", name := "loads", desc := "(I)Z" } : Jvm.MethodName)) ∈ lw_all := lw_g (lw_at lw_m12 119 rfl) rfl
theorem q2868 : (Jvm.Cond.privateMethod ({ cls := "ReorderiumModel", name := "loads", desc := "(I)Z" } : Jvm.MethodName)) ∈ lw_tbl := lw_at lw_m12 120 rfl
theorem q2869 : (Jvm.Cond.instanceMethod ({ cls := "ReorderiumModel", name := "loads", desc := "(I)Z" } : Jvm.MethodName)) ∈ lw_all := lw_g (lw_at lw_m12 121 rfl) rfl
theorem q2870 : (Jvm.Cond.code ({ cls := "ReorderiumModel", name := "loads", desc := "(I)Z" } : Jvm.MethodName) prog_11_method_37_code (8 : Nat) (Option.some Jvm.ClassFile.FieldType.boolean)) ∈ lw_all := lw_g (lw_at lw_m12 122 rfl) rfl
theorem q2871 : (Jvm.Cond.methodLink "ReorderiumModel" (240 : Nat) ({ cls := "ReorderiumModel", name := "isAskedFor", desc := "(I)Z" } : Jvm.MethodName)) ∈ lw_all := lw_g (lw_at lw_m12 123 rfl) rfl
theorem q2872 : (Jvm.Cond.privateMethod ({ cls := "ReorderiumModel", name := "isAskedFor", desc := "(I)Z" } : Jvm.MethodName)) ∈ lw_tbl := lw_at lw_m12 124 rfl
theorem q2873 : (Jvm.Cond.instanceMethod ({ cls := "ReorderiumModel", name := "isAskedFor", desc := "(I)Z" } : Jvm.MethodName)) ∈ lw_all := lw_g (lw_at lw_m12 125 rfl) rfl
theorem q2874 : (Jvm.Cond.code ({ cls := "ReorderiumModel", name := "isAskedFor", desc := "(I)Z" } : Jvm.MethodName) prog_11_method_36_code (4 : Nat) (Option.some Jvm.ClassFile.FieldType.boolean)) ∈ lw_all := lw_g (lw_at lw_m12 126 rfl) rfl
theorem q2875 : (Jvm.Cond.methodLink "ReorderiumModel" (168 : Nat) ({ cls := "ReorderiumModel", name := "renames", desc := "()V" } : Jvm.MethodName)) ∈ lw_all := lw_g (lw_at lw_m12 127 rfl) rfl
theorem q2876 : (Jvm.Cond.privateMethod ({ cls := "ReorderiumModel", name := "renames", desc := "()V" } : Jvm.MethodName)) ∈ lw_tbl := lw_at lw_m12 128 rfl
theorem q2877 : (Jvm.Cond.instanceMethod ({ cls := "ReorderiumModel", name := "renames", desc := "()V" } : Jvm.MethodName)) ∈ lw_all := lw_g (lw_at lw_m12 129 rfl) rfl
theorem q2878 : (Jvm.Cond.code ({ cls := "ReorderiumModel", name := "renames", desc := "()V" } : Jvm.MethodName) prog_11_method_33_code (6 : Nat) (Option.none : Option Jvm.ClassFile.FieldType)) ∈ lw_all := lw_g (lw_at lw_m12 130 rfl) rfl
theorem q2879 : (Jvm.Cond.methodLink "ReorderiumModel" (219 : Nat) ({ cls := "ReorderiumModel", name := "canRename", desc := "(I)Z" } : Jvm.MethodName)) ∈ lw_all := lw_g (lw_at lw_m12 131 rfl) rfl
theorem q2880 : (Jvm.Cond.privateMethod ({ cls := "ReorderiumModel", name := "canRename", desc := "(I)Z" } : Jvm.MethodName)) ∈ lw_tbl := lw_at lw_m12 132 rfl
theorem q2881 : (Jvm.Cond.instanceMethod ({ cls := "ReorderiumModel", name := "canRename", desc := "(I)Z" } : Jvm.MethodName)) ∈ lw_all := lw_g (lw_at lw_m12 133 rfl) rfl
theorem q2882 : (Jvm.Cond.code ({ cls := "ReorderiumModel", name := "canRename", desc := "(I)Z" } : Jvm.MethodName) prog_11_method_32_code (4 : Nat) (Option.some Jvm.ClassFile.FieldType.boolean)) ∈ lw_all := lw_g (lw_at lw_m12 134 rfl) rfl
theorem q2883 : (Jvm.Cond.methodLink "ReorderiumModel" (205 : Nat) ({ cls := "ReorderiumModel", name := "isAlone", desc := "(I)Z" } : Jvm.MethodName)) ∈ lw_all := lw_g (lw_at lw_m12 135 rfl) rfl
theorem q2884 : (Jvm.Cond.static ({ cls := "ReorderiumModel", name := "isAlone", desc := "(I)Z" } : Jvm.MethodName)) ∈ lw_all := lw_g (lw_at lw_m12 136 rfl) rfl
theorem q2885 : (Jvm.Cond.code ({ cls := "ReorderiumModel", name := "isAlone", desc := "(I)Z" } : Jvm.MethodName) prog_11_method_23_code (1 : Nat) (Option.some Jvm.ClassFile.FieldType.boolean)) ∈ lw_all := lw_g (lw_at lw_m12 137 rfl) rfl
theorem q2886 : (Jvm.Cond.methodLink "ReorderiumModel" (215 : Nat) ({ cls := "ReorderiumModel", name := "inQueueNow", desc := "()I" } : Jvm.MethodName)) ∈ lw_all := lw_g (lw_at lw_m12 138 rfl) rfl
theorem q2887 : (Jvm.Cond.privateMethod ({ cls := "ReorderiumModel", name := "inQueueNow", desc := "()I" } : Jvm.MethodName)) ∈ lw_tbl := lw_at lw_m12 139 rfl
theorem q2888 : (Jvm.Cond.instanceMethod ({ cls := "ReorderiumModel", name := "inQueueNow", desc := "()I" } : Jvm.MethodName)) ∈ lw_all := lw_g (lw_at lw_m12 140 rfl) rfl
theorem q2889 : (Jvm.Cond.code ({ cls := "ReorderiumModel", name := "inQueueNow", desc := "()I" } : Jvm.MethodName) prog_11_method_31_code (3 : Nat) (Option.some Jvm.ClassFile.FieldType.int)) ∈ lw_all := lw_g (lw_at lw_m12 141 rfl) rfl
theorem q2890 : (Jvm.Cond.methodLink "ReorderiumModel" (171 : Nat) ({ cls := "ReorderiumModel", name := "fetches", desc := "()V" } : Jvm.MethodName)) ∈ lw_all := lw_g (lw_at lw_m12 142 rfl) rfl
theorem q2891 : (Jvm.Cond.privateMethod ({ cls := "ReorderiumModel", name := "fetches", desc := "()V" } : Jvm.MethodName)) ∈ lw_tbl := lw_at lw_m12 143 rfl
theorem q2892 : (Jvm.Cond.instanceMethod ({ cls := "ReorderiumModel", name := "fetches", desc := "()V" } : Jvm.MethodName)) ∈ lw_all := lw_g (lw_at lw_m12 144 rfl) rfl
theorem q2893 : (Jvm.Cond.code ({ cls := "ReorderiumModel", name := "fetches", desc := "()V" } : Jvm.MethodName) prog_11_method_29_code (5 : Nat) (Option.none : Option Jvm.ClassFile.FieldType)) ∈ lw_all := lw_g (lw_at lw_m12 145 rfl) rfl
theorem q2894 : (Jvm.Cond.methodLink "ReorderiumModel" (186 : Nat) ({ cls := "ReorderiumModel", name := "keepsStack", desc := "([II)V" } : Jvm.MethodName)) ∈ lw_all := lw_g (lw_at lw_m12 146 rfl) rfl
theorem q2895 : (Jvm.Cond.privateMethod ({ cls := "ReorderiumModel", name := "keepsStack", desc := "([II)V" } : Jvm.MethodName)) ∈ lw_tbl := lw_at lw_m12 147 rfl
theorem q2896 : (Jvm.Cond.instanceMethod ({ cls := "ReorderiumModel", name := "keepsStack", desc := "([II)V" } : Jvm.MethodName)) ∈ lw_all := lw_g (lw_at lw_m12 148 rfl) rfl
theorem q2897 : (Jvm.Cond.code ({ cls := "ReorderiumModel", name := "keepsStack", desc := "([II)V" } : Jvm.MethodName) prog_11_method_27_code (4 : Nat) (Option.none : Option Jvm.ClassFile.FieldType)) ∈ lw_all := lw_g (lw_at lw_m12 149 rfl) rfl
theorem q2898 : (Jvm.Cond.methodLink "ReorderiumModel" (190 : Nat) ({ cls := "ReorderiumModel", name := "guess", desc := "(I)I" } : Jvm.MethodName)) ∈ lw_all := lw_g (lw_at lw_m12 150 rfl) rfl
theorem q2899 : (Jvm.Cond.privateMethod ({ cls := "ReorderiumModel", name := "guess", desc := "(I)I" } : Jvm.MethodName)) ∈ lw_tbl := lw_at lw_m12 151 rfl
theorem q2900 : (Jvm.Cond.instanceMethod ({ cls := "ReorderiumModel", name := "guess", desc := "(I)I" } : Jvm.MethodName)) ∈ lw_all := lw_g (lw_at lw_m12 152 rfl) rfl
theorem q2901 : (Jvm.Cond.code ({ cls := "ReorderiumModel", name := "guess", desc := "(I)I" } : Jvm.MethodName) prog_11_method_25_code (3 : Nat) (Option.some Jvm.ClassFile.FieldType.int)) ∈ lw_all := lw_g (lw_at lw_m12 153 rfl) rfl
theorem q2902 : (Jvm.Cond.methodLink "ReorderiumModel" (194 : Nat) ({ cls := "ReorderiumModel", name := "pushes", desc := "(I)V" } : Jvm.MethodName)) ∈ lw_all := lw_g (lw_at lw_m12 154 rfl) rfl
theorem q2903 : (Jvm.Cond.privateMethod ({ cls := "ReorderiumModel", name := "pushes", desc := "(I)V" } : Jvm.MethodName)) ∈ lw_tbl := lw_at lw_m12 155 rfl
theorem q2904 : (Jvm.Cond.instanceMethod ({ cls := "ReorderiumModel", name := "pushes", desc := "(I)V" } : Jvm.MethodName)) ∈ lw_all := lw_g (lw_at lw_m12 156 rfl) rfl
theorem q2905 : (Jvm.Cond.code ({ cls := "ReorderiumModel", name := "pushes", desc := "(I)V" } : Jvm.MethodName) prog_11_method_26_code (3 : Nat) (Option.none : Option Jvm.ClassFile.FieldType)) ∈ lw_all := lw_g (lw_at lw_m12 157 rfl) rfl
theorem q2907 : (Jvm.Cond.instanceMethod ({ cls := "ReorderiumModel", name := "cycle", desc := "()I" } : Jvm.MethodName)) ∈ lw_all := lw_g (lw_at lw_m12 159 rfl) rfl
theorem q2908 : (Jvm.Cond.selects "ReorderiumModel" ({ cls := "ReorderiumModel", name := "cycle", desc := "()I" } : Jvm.MethodName) ({ cls := "ReorderiumModel", name := "cycle", desc := "()I" } : Jvm.MethodName)) ∈ lw_all := lw_g (lw_at lw_m12 160 rfl) rfl
theorem q2909 : (Jvm.Cond.code ({ cls := "ReorderiumModel", name := "cycle", desc := "()I" } : Jvm.MethodName) prog_11_method_54_code (1 : Nat) (Option.some Jvm.ClassFile.FieldType.int)) ∈ lw_all := lw_g (lw_at lw_m12 161 rfl) rfl
theorem q2911 : (Jvm.Cond.instanceMethod ({ cls := "ReorderiumModel", name := "hasStopped", desc := "()Z" } : Jvm.MethodName)) ∈ lw_all := lw_g (lw_at lw_m12 163 rfl) rfl
theorem q2912 : (Jvm.Cond.selects "ReorderiumModel" ({ cls := "ReorderiumModel", name := "hasStopped", desc := "()Z" } : Jvm.MethodName) ({ cls := "ReorderiumModel", name := "hasStopped", desc := "()Z" } : Jvm.MethodName)) ∈ lw_all := lw_g (lw_at lw_m12 164 rfl) rfl
theorem q2913 : (Jvm.Cond.code ({ cls := "ReorderiumModel", name := "hasStopped", desc := "()Z" } : Jvm.MethodName) prog_11_method_55_code (1 : Nat) (Option.some Jvm.ClassFile.FieldType.boolean)) ∈ lw_all := lw_g (lw_at lw_m12 165 rfl) rfl
theorem q2915 : (Jvm.Cond.instanceMethod ({ cls := "ReorderiumModel", name := "ends", desc := "()I" } : Jvm.MethodName)) ∈ lw_all := lw_g (lw_at lw_m12 167 rfl) rfl
theorem q2916 : (Jvm.Cond.selects "ReorderiumModel" ({ cls := "ReorderiumModel", name := "ends", desc := "()I" } : Jvm.MethodName) ({ cls := "ReorderiumModel", name := "ends", desc := "()I" } : Jvm.MethodName)) ∈ lw_all := lw_g (lw_at lw_m12 168 rfl) rfl
theorem q2917 : (Jvm.Cond.code ({ cls := "ReorderiumModel", name := "ends", desc := "()I" } : Jvm.MethodName) prog_11_method_56_code (1 : Nat) (Option.some Jvm.ClassFile.FieldType.int)) ∈ lw_all := lw_g (lw_at lw_m12 169 rfl) rfl
theorem q2919 : (Jvm.Cond.instanceMethod ({ cls := "ReorderiumModel", name := "kindAt", desc := "(I)I" } : Jvm.MethodName)) ∈ lw_all := lw_g (lw_at lw_m12 171 rfl) rfl
theorem q2920 : (Jvm.Cond.selects "ReorderiumModel" ({ cls := "ReorderiumModel", name := "kindAt", desc := "(I)I" } : Jvm.MethodName) ({ cls := "ReorderiumModel", name := "kindAt", desc := "(I)I" } : Jvm.MethodName)) ∈ lw_all := lw_g (lw_at lw_m12 172 rfl) rfl
theorem q2921 : (Jvm.Cond.code ({ cls := "ReorderiumModel", name := "kindAt", desc := "(I)I" } : Jvm.MethodName) prog_11_method_58_code (2 : Nat) (Option.some Jvm.ClassFile.FieldType.int)) ∈ lw_all := lw_g (lw_at lw_m12 173 rfl) rfl
theorem q2922 : (Jvm.Cond.methodLink "ReorderiumModel" (328 : Nat) ({ cls := "ReorderiumModel", name := "noEnd", desc := "(I)Z" } : Jvm.MethodName)) ∈ lw_all := lw_g (lw_at lw_m12 174 rfl) rfl
theorem q2923 : (Jvm.Cond.privateMethod ({ cls := "ReorderiumModel", name := "noEnd", desc := "(I)Z" } : Jvm.MethodName)) ∈ lw_tbl := lw_at lw_m12 175 rfl
theorem q2924 : (Jvm.Cond.instanceMethod ({ cls := "ReorderiumModel", name := "noEnd", desc := "(I)Z" } : Jvm.MethodName)) ∈ lw_all := lw_g (lw_at lw_m12 176 rfl) rfl
theorem q2925 : (Jvm.Cond.code ({ cls := "ReorderiumModel", name := "noEnd", desc := "(I)Z" } : Jvm.MethodName) prog_11_method_57_code (2 : Nat) (Option.some Jvm.ClassFile.FieldType.boolean)) ∈ lw_all := lw_g (lw_at lw_m12 177 rfl) rfl
theorem q2927 : (Jvm.Cond.instanceMethod ({ cls := "ReorderiumModel", name := "placeAt", desc := "(I)I" } : Jvm.MethodName)) ∈ lw_all := lw_g (lw_at lw_m12 179 rfl) rfl
theorem q2928 : (Jvm.Cond.selects "ReorderiumModel" ({ cls := "ReorderiumModel", name := "placeAt", desc := "(I)I" } : Jvm.MethodName) ({ cls := "ReorderiumModel", name := "placeAt", desc := "(I)I" } : Jvm.MethodName)) ∈ lw_all := lw_g (lw_at lw_m12 180 rfl) rfl
theorem q2929 : (Jvm.Cond.code ({ cls := "ReorderiumModel", name := "placeAt", desc := "(I)I" } : Jvm.MethodName) prog_11_method_59_code (2 : Nat) (Option.some Jvm.ClassFile.FieldType.int)) ∈ lw_all := lw_g (lw_at lw_m12 181 rfl) rfl
theorem q2931 : (Jvm.Cond.instanceMethod ({ cls := "ReorderiumModel", name := "kindByPlain", desc := "(I)I" } : Jvm.MethodName)) ∈ lw_all := lw_g (lw_at lw_m12 183 rfl) rfl
theorem q2932 : (Jvm.Cond.selects "ReorderiumModel" ({ cls := "ReorderiumModel", name := "kindByPlain", desc := "(I)I" } : Jvm.MethodName) ({ cls := "ReorderiumModel", name := "kindByPlain", desc := "(I)I" } : Jvm.MethodName)) ∈ lw_all := lw_g (lw_at lw_m12 184 rfl) rfl
theorem q2933 : (Jvm.Cond.code ({ cls := "ReorderiumModel", name := "kindByPlain", desc := "(I)I" } : Jvm.MethodName) prog_11_method_64_code (2 : Nat) (Option.some Jvm.ClassFile.FieldType.int)) ∈ lw_all := lw_g (lw_at lw_m12 185 rfl) rfl
theorem q2934 : (Jvm.Cond.methodLink "ReorderiumModel" (352 : Nat) ({ cls := "ReorderiumModel", name := "plain", desc := "(I)[I" } : Jvm.MethodName)) ∈ lw_all := lw_g (lw_at lw_m12 186 rfl) rfl
theorem q2935 : (Jvm.Cond.privateMethod ({ cls := "ReorderiumModel", name := "plain", desc := "(I)[I" } : Jvm.MethodName)) ∈ lw_tbl := lw_at lw_m12 187 rfl
theorem q2936 : (Jvm.Cond.instanceMethod ({ cls := "ReorderiumModel", name := "plain", desc := "(I)[I" } : Jvm.MethodName)) ∈ lw_all := lw_g (lw_at lw_m12 188 rfl) rfl
theorem q2937 : (Jvm.Cond.code ({ cls := "ReorderiumModel", name := "plain", desc := "(I)[I" } : Jvm.MethodName) prog_11_method_63_code (5 : Nat) (Option.some (Jvm.ClassFile.FieldType.array Jvm.ClassFile.FieldType.int))) ∈ lw_all := lw_g (lw_at lw_m12 189 rfl) rfl
theorem q2938 : (Jvm.Cond.methodLink "ReorderiumModel" (346 : Nat) ({ cls := "ReorderiumModel", name := "plainTrap", desc := "(I)I" } : Jvm.MethodName)) ∈ lw_all := lw_g (lw_at lw_m12 190 rfl) rfl
theorem q2939 : (Jvm.Cond.privateMethod ({ cls := "ReorderiumModel", name := "plainTrap", desc := "(I)I" } : Jvm.MethodName)) ∈ lw_tbl := lw_at lw_m12 191 rfl
theorem q2940 : (Jvm.Cond.instanceMethod ({ cls := "ReorderiumModel", name := "plainTrap", desc := "(I)I" } : Jvm.MethodName)) ∈ lw_all := lw_g (lw_at lw_m12 192 rfl) rfl
theorem q2941 : (Jvm.Cond.code ({ cls := "ReorderiumModel", name := "plainTrap", desc := "(I)I" } : Jvm.MethodName) prog_11_method_61_code (6 : Nat) (Option.some Jvm.ClassFile.FieldType.int)) ∈ lw_all := lw_g (lw_at lw_m12 193 rfl) rfl
theorem q2942 : (Jvm.Cond.methodLink "ReorderiumModel" (331 : Nat) ({ cls := "ReorderiumModel", name := "address", desc := "(I)I" } : Jvm.MethodName)) ∈ lw_all := lw_g (lw_at lw_m12 194 rfl) rfl
theorem q2943 : (Jvm.Cond.privateMethod ({ cls := "ReorderiumModel", name := "address", desc := "(I)I" } : Jvm.MethodName)) ∈ lw_tbl := lw_at lw_m12 195 rfl
theorem q2944 : (Jvm.Cond.instanceMethod ({ cls := "ReorderiumModel", name := "address", desc := "(I)I" } : Jvm.MethodName)) ∈ lw_all := lw_g (lw_at lw_m12 196 rfl) rfl
theorem q2945 : (Jvm.Cond.code ({ cls := "ReorderiumModel", name := "address", desc := "(I)I" } : Jvm.MethodName) prog_11_method_60_code (2 : Nat) (Option.some Jvm.ClassFile.FieldType.int)) ∈ lw_all := lw_g (lw_at lw_m12 197 rfl) rfl
theorem q2946 : (Jvm.Cond.methodLink "ReorderiumModel" (349 : Nat) ({ cls := "ReorderiumModel", name := "plainDoes", desc := "(I)V" } : Jvm.MethodName)) ∈ lw_all := lw_g (lw_at lw_m12 198 rfl) rfl
theorem q2947 : (Jvm.Cond.privateMethod ({ cls := "ReorderiumModel", name := "plainDoes", desc := "(I)V" } : Jvm.MethodName)) ∈ lw_tbl := lw_at lw_m12 199 rfl
theorem q2948 : (Jvm.Cond.instanceMethod ({ cls := "ReorderiumModel", name := "plainDoes", desc := "(I)V" } : Jvm.MethodName)) ∈ lw_all := lw_g (lw_at lw_m12 200 rfl) rfl
theorem q2949 : (Jvm.Cond.code ({ cls := "ReorderiumModel", name := "plainDoes", desc := "(I)V" } : Jvm.MethodName) prog_11_method_62_code (7 : Nat) (Option.none : Option Jvm.ClassFile.FieldType)) ∈ lw_all := lw_g (lw_at lw_m12 201 rfl) rfl
theorem q2951 : (Jvm.Cond.instanceMethod ({ cls := "ReorderiumModel", name := "placeByPlain", desc := "(I)I" } : Jvm.MethodName)) ∈ lw_all := lw_g (lw_at lw_m12 203 rfl) rfl
theorem q2952 : (Jvm.Cond.selects "ReorderiumModel" ({ cls := "ReorderiumModel", name := "placeByPlain", desc := "(I)I" } : Jvm.MethodName) ({ cls := "ReorderiumModel", name := "placeByPlain", desc := "(I)I" } : Jvm.MethodName)) ∈ lw_all := lw_g (lw_at lw_m12 204 rfl) rfl
theorem q2953 : (Jvm.Cond.code ({ cls := "ReorderiumModel", name := "placeByPlain", desc := "(I)I" } : Jvm.MethodName) prog_11_method_65_code (2 : Nat) (Option.some Jvm.ClassFile.FieldType.int)) ∈ lw_all := lw_g (lw_at lw_m12 205 rfl) rfl
theorem q2955 : (Jvm.Cond.instanceMethod ({ cls := "ReorderiumModel", name := "register", desc := "(I)I" } : Jvm.MethodName)) ∈ lw_all := lw_g (lw_at lw_m12 207 rfl) rfl
theorem q2956 : (Jvm.Cond.selects "ReorderiumModel" ({ cls := "ReorderiumModel", name := "register", desc := "(I)I" } : Jvm.MethodName) ({ cls := "ReorderiumModel", name := "register", desc := "(I)I" } : Jvm.MethodName)) ∈ lw_all := lw_g (lw_at lw_m12 208 rfl) rfl
theorem q2957 : (Jvm.Cond.code ({ cls := "ReorderiumModel", name := "register", desc := "(I)I" } : Jvm.MethodName) prog_11_method_66_code (2 : Nat) (Option.some Jvm.ClassFile.FieldType.int)) ∈ lw_all := lw_g (lw_at lw_m12 209 rfl) rfl
theorem q2959 : (Jvm.Cond.instanceMethod ({ cls := "ReorderiumModel", name := "registerByPlain", desc := "(I)I" } : Jvm.MethodName)) ∈ lw_all := lw_g (lw_at lw_m12 211 rfl) rfl
theorem q2960 : (Jvm.Cond.selects "ReorderiumModel" ({ cls := "ReorderiumModel", name := "registerByPlain", desc := "(I)I" } : Jvm.MethodName) ({ cls := "ReorderiumModel", name := "registerByPlain", desc := "(I)I" } : Jvm.MethodName)) ∈ lw_all := lw_g (lw_at lw_m12 212 rfl) rfl
theorem q2961 : (Jvm.Cond.code ({ cls := "ReorderiumModel", name := "registerByPlain", desc := "(I)I" } : Jvm.MethodName) prog_11_method_67_code (3 : Nat) (Option.some Jvm.ClassFile.FieldType.int)) ∈ lw_all := lw_g (lw_at lw_m12 213 rfl) rfl
theorem q2963 : (Jvm.Cond.instanceMethod ({ cls := "ReorderiumModel", name := "word", desc := "(I)I" } : Jvm.MethodName)) ∈ lw_all := lw_g (lw_at lw_m12 215 rfl) rfl
theorem q2964 : (Jvm.Cond.selects "ReorderiumModel" ({ cls := "ReorderiumModel", name := "word", desc := "(I)I" } : Jvm.MethodName) ({ cls := "ReorderiumModel", name := "word", desc := "(I)I" } : Jvm.MethodName)) ∈ lw_all := lw_g (lw_at lw_m12 216 rfl) rfl
theorem q2965 : (Jvm.Cond.code ({ cls := "ReorderiumModel", name := "word", desc := "(I)I" } : Jvm.MethodName) prog_11_method_68_code (2 : Nat) (Option.some Jvm.ClassFile.FieldType.int)) ∈ lw_all := lw_g (lw_at lw_m12 217 rfl) rfl
theorem q2967 : (Jvm.Cond.instanceMethod ({ cls := "ReorderiumModel", name := "wordByPlain", desc := "(I)I" } : Jvm.MethodName)) ∈ lw_all := lw_g (lw_at lw_m12 219 rfl) rfl
theorem q2968 : (Jvm.Cond.selects "ReorderiumModel" ({ cls := "ReorderiumModel", name := "wordByPlain", desc := "(I)I" } : Jvm.MethodName) ({ cls := "ReorderiumModel", name := "wordByPlain", desc := "(I)I" } : Jvm.MethodName)) ∈ lw_all := lw_g (lw_at lw_m12 220 rfl) rfl
theorem q2969 : (Jvm.Cond.code ({ cls := "ReorderiumModel", name := "wordByPlain", desc := "(I)I" } : Jvm.MethodName) prog_11_method_69_code (3 : Nat) (Option.some Jvm.ClassFile.FieldType.int)) ∈ lw_all := lw_g (lw_at lw_m12 221 rfl) rfl
theorem q2971 : (Jvm.Cond.instanceMethod ({ cls := "ReorderiumModel", name := "kept", desc := "()I" } : Jvm.MethodName)) ∈ lw_all := lw_g (lw_at lw_m12 223 rfl) rfl
theorem q2972 : (Jvm.Cond.selects "ReorderiumModel" ({ cls := "ReorderiumModel", name := "kept", desc := "()I" } : Jvm.MethodName) ({ cls := "ReorderiumModel", name := "kept", desc := "()I" } : Jvm.MethodName)) ∈ lw_all := lw_g (lw_at lw_m12 224 rfl) rfl
theorem q2973 : (Jvm.Cond.code ({ cls := "ReorderiumModel", name := "kept", desc := "()I" } : Jvm.MethodName) prog_11_method_70_code (1 : Nat) (Option.some Jvm.ClassFile.FieldType.int)) ∈ lw_all := lw_g (lw_at lw_m12 225 rfl) rfl
theorem q2975 : (Jvm.Cond.instanceMethod ({ cls := "ReorderiumModel", name := "life", desc := "(II)I" } : Jvm.MethodName)) ∈ lw_all := lw_g (lw_at lw_m12 227 rfl) rfl
theorem q2976 : (Jvm.Cond.selects "ReorderiumModel" ({ cls := "ReorderiumModel", name := "life", desc := "(II)I" } : Jvm.MethodName) ({ cls := "ReorderiumModel", name := "life", desc := "(II)I" } : Jvm.MethodName)) ∈ lw_all := lw_g (lw_at lw_m12 228 rfl) rfl
theorem q2977 : (Jvm.Cond.code ({ cls := "ReorderiumModel", name := "life", desc := "(II)I" } : Jvm.MethodName) prog_11_method_71_code (4 : Nat) (Option.some Jvm.ClassFile.FieldType.int)) ∈ lw_all := lw_g (lw_at lw_m12 229 rfl) rfl
theorem q2978 : (Jvm.Cond.methodLink "ReorderiumModel" (356 : Nat) ({ cls := "ReorderiumModel", name := "raises", desc := "(I)I" } : Jvm.MethodName)) ∈ lw_all := lw_g (lw_at lw_m12 230 rfl) rfl
theorem q2979 : (Jvm.Cond.privateMethod ({ cls := "ReorderiumModel", name := "raises", desc := "(I)I" } : Jvm.MethodName)) ∈ lw_tbl := lw_at lw_m12 231 rfl
theorem q2980 : (Jvm.Cond.instanceMethod ({ cls := "ReorderiumModel", name := "raises", desc := "(I)I" } : Jvm.MethodName)) ∈ lw_all := lw_g (lw_at lw_m12 232 rfl) rfl
theorem q2981 : (Jvm.Cond.code ({ cls := "ReorderiumModel", name := "raises", desc := "(I)I" } : Jvm.MethodName) prog_11_method_3_code (2 : Nat) (Option.some Jvm.ClassFile.FieldType.int)) ∈ lw_all := lw_g (lw_at lw_m12 233 rfl) rfl
theorem q2983 : (Jvm.Cond.instanceMethod ({ cls := "ReorderiumModel", name := "inner", desc := "(I)I" } : Jvm.MethodName)) ∈ lw_all := lw_g (lw_at lw_m12 235 rfl) rfl
theorem q2984 : (Jvm.Cond.selects "ReorderiumModel" ({ cls := "ReorderiumModel", name := "inner", desc := "(I)I" } : Jvm.MethodName) ({ cls := "ReorderiumModel", name := "inner", desc := "(I)I" } : Jvm.MethodName)) ∈ lw_all := lw_g (lw_at lw_m12 236 rfl) rfl
theorem q2985 : (Jvm.Cond.code ({ cls := "ReorderiumModel", name := "inner", desc := "(I)I" } : Jvm.MethodName) prog_11_method_72_code (2 : Nat) (Option.some Jvm.ClassFile.FieldType.int)) ∈ lw_all := lw_g (lw_at lw_m12 237 rfl) rfl
theorem q2987 : (Jvm.Cond.instanceMethod ({ cls := "ReorderiumModel", name := "innerAnew", desc := "(I)I" } : Jvm.MethodName)) ∈ lw_all := lw_g (lw_at lw_m12 239 rfl) rfl
theorem q2988 : (Jvm.Cond.selects "ReorderiumModel" ({ cls := "ReorderiumModel", name := "innerAnew", desc := "(I)I" } : Jvm.MethodName) ({ cls := "ReorderiumModel", name := "innerAnew", desc := "(I)I" } : Jvm.MethodName)) ∈ lw_all := lw_g (lw_at lw_m13 0 rfl) rfl
theorem q2989 : (Jvm.Cond.code ({ cls := "ReorderiumModel", name := "innerAnew", desc := "(I)I" } : Jvm.MethodName) prog_11_method_73_code (2 : Nat) (Option.some Jvm.ClassFile.FieldType.int)) ∈ lw_all := lw_g (lw_at lw_m13 1 rfl) rfl
theorem q2990 : (Jvm.Cond.methodLink "ReorderiumModel" (359 : Nat) ({ cls := "ReorderiumModel", name := "inner", desc := "(I)I" } : Jvm.MethodName)) ∈ lw_all := lw_g (lw_at lw_m13 2 rfl) rfl
theorem q2992 : (Jvm.Cond.instanceMethod ({ cls := "ReorderiumModel", name := "stateOf", desc := "(I)C" } : Jvm.MethodName)) ∈ lw_all := lw_g (lw_at lw_m13 4 rfl) rfl
theorem q2993 : (Jvm.Cond.selects "ReorderiumModel" ({ cls := "ReorderiumModel", name := "stateOf", desc := "(I)C" } : Jvm.MethodName) ({ cls := "ReorderiumModel", name := "stateOf", desc := "(I)C" } : Jvm.MethodName)) ∈ lw_all := lw_g (lw_at lw_m13 5 rfl) rfl
theorem q2994 : (Jvm.Cond.code ({ cls := "ReorderiumModel", name := "stateOf", desc := "(I)C" } : Jvm.MethodName) prog_11_method_75_code (5 : Nat) (Option.some Jvm.ClassFile.FieldType.char)) ∈ lw_all := lw_g (lw_at lw_m13 6 rfl) rfl
theorem q2995 : (Jvm.Cond.methodLink "ReorderiumModel" (362 : Nat) ({ cls := "ReorderiumModel", name := "noInner", desc := "(I)Z" } : Jvm.MethodName)) ∈ lw_all := lw_g (lw_at lw_m13 7 rfl) rfl
theorem q2996 : (Jvm.Cond.privateMethod ({ cls := "ReorderiumModel", name := "noInner", desc := "(I)Z" } : Jvm.MethodName)) ∈ lw_tbl := lw_at lw_m13 8 rfl
theorem q2997 : (Jvm.Cond.instanceMethod ({ cls := "ReorderiumModel", name := "noInner", desc := "(I)Z" } : Jvm.MethodName)) ∈ lw_all := lw_g (lw_at lw_m13 9 rfl) rfl
theorem q2998 : (Jvm.Cond.code ({ cls := "ReorderiumModel", name := "noInner", desc := "(I)Z" } : Jvm.MethodName) prog_11_method_74_code (2 : Nat) (Option.some Jvm.ClassFile.FieldType.boolean)) ∈ lw_all := lw_g (lw_at lw_m13 10 rfl) rfl
theorem q3000 : (Jvm.Cond.instanceMethod ({ cls := "ReorderiumModel", name := "isReady", desc := "(I)Z" } : Jvm.MethodName)) ∈ lw_all := lw_g (lw_at lw_m13 12 rfl) rfl
theorem q3001 : (Jvm.Cond.selects "ReorderiumModel" ({ cls := "ReorderiumModel", name := "isReady", desc := "(I)Z" } : Jvm.MethodName) ({ cls := "ReorderiumModel", name := "isReady", desc := "(I)Z" } : Jvm.MethodName)) ∈ lw_all := lw_g (lw_at lw_m13 13 rfl) rfl
theorem q3002 : (Jvm.Cond.code ({ cls := "ReorderiumModel", name := "isReady", desc := "(I)Z" } : Jvm.MethodName) prog_11_method_76_code (2 : Nat) (Option.some Jvm.ClassFile.FieldType.boolean)) ∈ lw_all := lw_g (lw_at lw_m13 14 rfl) rfl
theorem q3004 : (Jvm.Cond.instanceMethod ({ cls := "ReorderiumModel", name := "free", desc := "()I" } : Jvm.MethodName)) ∈ lw_all := lw_g (lw_at lw_m13 16 rfl) rfl
theorem q3005 : (Jvm.Cond.selects "ReorderiumModel" ({ cls := "ReorderiumModel", name := "free", desc := "()I" } : Jvm.MethodName) ({ cls := "ReorderiumModel", name := "free", desc := "()I" } : Jvm.MethodName)) ∈ lw_all := lw_g (lw_at lw_m13 17 rfl) rfl
theorem q3006 : (Jvm.Cond.code ({ cls := "ReorderiumModel", name := "free", desc := "()I" } : Jvm.MethodName) prog_11_method_77_code (1 : Nat) (Option.some Jvm.ClassFile.FieldType.int)) ∈ lw_all := lw_g (lw_at lw_m13 18 rfl) rfl
theorem q3008 : (Jvm.Cond.instanceMethod ({ cls := "ReorderiumModel", name := "freeAt", desc := "(I)I" } : Jvm.MethodName)) ∈ lw_all := lw_g (lw_at lw_m13 20 rfl) rfl
theorem q3009 : (Jvm.Cond.selects "ReorderiumModel" ({ cls := "ReorderiumModel", name := "freeAt", desc := "(I)I" } : Jvm.MethodName) ({ cls := "ReorderiumModel", name := "freeAt", desc := "(I)I" } : Jvm.MethodName)) ∈ lw_all := lw_g (lw_at lw_m13 21 rfl) rfl
theorem q3010 : (Jvm.Cond.code ({ cls := "ReorderiumModel", name := "freeAt", desc := "(I)I" } : Jvm.MethodName) prog_11_method_78_code (2 : Nat) (Option.some Jvm.ClassFile.FieldType.int)) ∈ lw_all := lw_g (lw_at lw_m13 22 rfl) rfl
theorem q3012 : (Jvm.Cond.instanceMethod ({ cls := "ReorderiumModel", name := "inBuffer", desc := "()I" } : Jvm.MethodName)) ∈ lw_all := lw_g (lw_at lw_m13 24 rfl) rfl
theorem q3013 : (Jvm.Cond.selects "ReorderiumModel" ({ cls := "ReorderiumModel", name := "inBuffer", desc := "()I" } : Jvm.MethodName) ({ cls := "ReorderiumModel", name := "inBuffer", desc := "()I" } : Jvm.MethodName)) ∈ lw_all := lw_g (lw_at lw_m13 25 rfl) rfl
theorem q3014 : (Jvm.Cond.code ({ cls := "ReorderiumModel", name := "inBuffer", desc := "()I" } : Jvm.MethodName) prog_11_method_79_code (1 : Nat) (Option.some Jvm.ClassFile.FieldType.int)) ∈ lw_all := lw_g (lw_at lw_m13 26 rfl) rfl
theorem q3016 : (Jvm.Cond.instanceMethod ({ cls := "ReorderiumModel", name := "bufferAt", desc := "(I)I" } : Jvm.MethodName)) ∈ lw_all := lw_g (lw_at lw_m13 28 rfl) rfl
theorem q3017 : (Jvm.Cond.selects "ReorderiumModel" ({ cls := "ReorderiumModel", name := "bufferAt", desc := "(I)I" } : Jvm.MethodName) ({ cls := "ReorderiumModel", name := "bufferAt", desc := "(I)I" } : Jvm.MethodName)) ∈ lw_all := lw_g (lw_at lw_m13 29 rfl) rfl
theorem q3018 : (Jvm.Cond.code ({ cls := "ReorderiumModel", name := "bufferAt", desc := "(I)I" } : Jvm.MethodName) prog_11_method_80_code (2 : Nat) (Option.some Jvm.ClassFile.FieldType.int)) ∈ lw_all := lw_g (lw_at lw_m13 30 rfl) rfl
theorem q3020 : (Jvm.Cond.instanceMethod ({ cls := "ReorderiumModel", name := "stageAt", desc := "(I)C" } : Jvm.MethodName)) ∈ lw_all := lw_g (lw_at lw_m13 32 rfl) rfl
theorem q3021 : (Jvm.Cond.selects "ReorderiumModel" ({ cls := "ReorderiumModel", name := "stageAt", desc := "(I)C" } : Jvm.MethodName) ({ cls := "ReorderiumModel", name := "stageAt", desc := "(I)C" } : Jvm.MethodName)) ∈ lw_all := lw_g (lw_at lw_m13 33 rfl) rfl
theorem q3022 : (Jvm.Cond.code ({ cls := "ReorderiumModel", name := "stageAt", desc := "(I)C" } : Jvm.MethodName) prog_11_method_81_code (2 : Nat) (Option.some Jvm.ClassFile.FieldType.char)) ∈ lw_all := lw_g (lw_at lw_m13 34 rfl) rfl
theorem q3024 : (Jvm.Cond.instanceMethod ({ cls := "ReorderiumModel", name := "inQueue", desc := "()I" } : Jvm.MethodName)) ∈ lw_all := lw_g (lw_at lw_m13 36 rfl) rfl
theorem q3025 : (Jvm.Cond.selects "ReorderiumModel" ({ cls := "ReorderiumModel", name := "inQueue", desc := "()I" } : Jvm.MethodName) ({ cls := "ReorderiumModel", name := "inQueue", desc := "()I" } : Jvm.MethodName)) ∈ lw_all := lw_g (lw_at lw_m13 37 rfl) rfl
theorem q3026 : (Jvm.Cond.code ({ cls := "ReorderiumModel", name := "inQueue", desc := "()I" } : Jvm.MethodName) prog_11_method_82_code (1 : Nat) (Option.some Jvm.ClassFile.FieldType.int)) ∈ lw_all := lw_g (lw_at lw_m13 38 rfl) rfl
theorem q3028 : (Jvm.Cond.instanceMethod ({ cls := "ReorderiumModel", name := "fetched", desc := "()I" } : Jvm.MethodName)) ∈ lw_all := lw_g (lw_at lw_m13 40 rfl) rfl
theorem q3029 : (Jvm.Cond.selects "ReorderiumModel" ({ cls := "ReorderiumModel", name := "fetched", desc := "()I" } : Jvm.MethodName) ({ cls := "ReorderiumModel", name := "fetched", desc := "()I" } : Jvm.MethodName)) ∈ lw_all := lw_g (lw_at lw_m13 41 rfl) rfl
theorem q3030 : (Jvm.Cond.code ({ cls := "ReorderiumModel", name := "fetched", desc := "()I" } : Jvm.MethodName) prog_11_method_83_code (1 : Nat) (Option.some Jvm.ClassFile.FieldType.int)) ∈ lw_all := lw_g (lw_at lw_m13 42 rfl) rfl
theorem q3032 : (Jvm.Cond.instanceMethod ({ cls := "ReorderiumModel", name := "fetching", desc := "()I" } : Jvm.MethodName)) ∈ lw_all := lw_g (lw_at lw_m13 44 rfl) rfl
theorem q3033 : (Jvm.Cond.selects "ReorderiumModel" ({ cls := "ReorderiumModel", name := "fetching", desc := "()I" } : Jvm.MethodName) ({ cls := "ReorderiumModel", name := "fetching", desc := "()I" } : Jvm.MethodName)) ∈ lw_all := lw_g (lw_at lw_m13 45 rfl) rfl
theorem q3034 : (Jvm.Cond.code ({ cls := "ReorderiumModel", name := "fetching", desc := "()I" } : Jvm.MethodName) prog_11_method_84_code (1 : Nat) (Option.some Jvm.ClassFile.FieldType.int)) ∈ lw_all := lw_g (lw_at lw_m13 46 rfl) rfl
theorem q3036 : (Jvm.Cond.instanceMethod ({ cls := "ReorderiumModel", name := "returns", desc := "()I" } : Jvm.MethodName)) ∈ lw_all := lw_g (lw_at lw_m13 48 rfl) rfl
theorem q3037 : (Jvm.Cond.selects "ReorderiumModel" ({ cls := "ReorderiumModel", name := "returns", desc := "()I" } : Jvm.MethodName) ({ cls := "ReorderiumModel", name := "returns", desc := "()I" } : Jvm.MethodName)) ∈ lw_all := lw_g (lw_at lw_m13 49 rfl) rfl
theorem q3038 : (Jvm.Cond.code ({ cls := "ReorderiumModel", name := "returns", desc := "()I" } : Jvm.MethodName) prog_11_method_85_code (1 : Nat) (Option.some Jvm.ClassFile.FieldType.int)) ∈ lw_all := lw_g (lw_at lw_m13 50 rfl) rfl
theorem q3040 : (Jvm.Cond.instanceMethod ({ cls := "ReorderiumModel", name := "returnAt", desc := "(I)I" } : Jvm.MethodName)) ∈ lw_all := lw_g (lw_at lw_m13 52 rfl) rfl
theorem q3041 : (Jvm.Cond.selects "ReorderiumModel" ({ cls := "ReorderiumModel", name := "returnAt", desc := "(I)I" } : Jvm.MethodName) ({ cls := "ReorderiumModel", name := "returnAt", desc := "(I)I" } : Jvm.MethodName)) ∈ lw_all := lw_g (lw_at lw_m13 53 rfl) rfl
theorem q3042 : (Jvm.Cond.code ({ cls := "ReorderiumModel", name := "returnAt", desc := "(I)I" } : Jvm.MethodName) prog_11_method_86_code (2 : Nat) (Option.some Jvm.ClassFile.FieldType.int)) ∈ lw_all := lw_g (lw_at lw_m13 54 rfl) rfl
theorem q3044 : (Jvm.Cond.instanceMethod ({ cls := "ReorderiumModel", name := "counter", desc := "(I)I" } : Jvm.MethodName)) ∈ lw_all := lw_g (lw_at lw_m13 56 rfl) rfl
theorem q3045 : (Jvm.Cond.selects "ReorderiumModel" ({ cls := "ReorderiumModel", name := "counter", desc := "(I)I" } : Jvm.MethodName) ({ cls := "ReorderiumModel", name := "counter", desc := "(I)I" } : Jvm.MethodName)) ∈ lw_all := lw_g (lw_at lw_m13 57 rfl) rfl
theorem q3046 : (Jvm.Cond.code ({ cls := "ReorderiumModel", name := "counter", desc := "(I)I" } : Jvm.MethodName) prog_11_method_87_code (2 : Nat) (Option.some Jvm.ClassFile.FieldType.int)) ∈ lw_all := lw_g (lw_at lw_m13 58 rfl) rfl
theorem q3048 : (Jvm.Cond.instanceMethod ({ cls := "ReorderiumModel", name := "isMarked", desc := "(I)Z" } : Jvm.MethodName)) ∈ lw_all := lw_g (lw_at lw_m13 60 rfl) rfl
theorem q3049 : (Jvm.Cond.selects "ReorderiumModel" ({ cls := "ReorderiumModel", name := "isMarked", desc := "(I)Z" } : Jvm.MethodName) ({ cls := "ReorderiumModel", name := "isMarked", desc := "(I)Z" } : Jvm.MethodName)) ∈ lw_all := lw_g (lw_at lw_m13 61 rfl) rfl
theorem q3050 : (Jvm.Cond.code ({ cls := "ReorderiumModel", name := "isMarked", desc := "(I)Z" } : Jvm.MethodName) prog_11_method_88_code (2 : Nat) (Option.some Jvm.ClassFile.FieldType.boolean)) ∈ lw_all := lw_g (lw_at lw_m13 62 rfl) rfl
theorem q3052 : (Jvm.Cond.instanceMethod ({ cls := "ReorderiumModel", name := "lineAt", desc := "(I)I" } : Jvm.MethodName)) ∈ lw_all := lw_g (lw_at lw_m13 64 rfl) rfl
theorem q3053 : (Jvm.Cond.selects "ReorderiumModel" ({ cls := "ReorderiumModel", name := "lineAt", desc := "(I)I" } : Jvm.MethodName) ({ cls := "ReorderiumModel", name := "lineAt", desc := "(I)I" } : Jvm.MethodName)) ∈ lw_all := lw_g (lw_at lw_m13 65 rfl) rfl
theorem q3054 : (Jvm.Cond.code ({ cls := "ReorderiumModel", name := "lineAt", desc := "(I)I" } : Jvm.MethodName) prog_11_method_89_code (2 : Nat) (Option.some Jvm.ClassFile.FieldType.int)) ∈ lw_all := lw_g (lw_at lw_m13 66 rfl) rfl
theorem q3056 : (Jvm.Cond.instanceMethod ({ cls := "ReorderiumModel", name := "asked", desc := "()I" } : Jvm.MethodName)) ∈ lw_all := lw_g (lw_at lw_m13 68 rfl) rfl
theorem q3057 : (Jvm.Cond.selects "ReorderiumModel" ({ cls := "ReorderiumModel", name := "asked", desc := "()I" } : Jvm.MethodName) ({ cls := "ReorderiumModel", name := "asked", desc := "()I" } : Jvm.MethodName)) ∈ lw_all := lw_g (lw_at lw_m13 69 rfl) rfl
theorem q3058 : (Jvm.Cond.code ({ cls := "ReorderiumModel", name := "asked", desc := "()I" } : Jvm.MethodName) prog_11_method_90_code (1 : Nat) (Option.some Jvm.ClassFile.FieldType.int)) ∈ lw_all := lw_g (lw_at lw_m13 70 rfl) rfl
theorem q3060 : (Jvm.Cond.instanceMethod ({ cls := "ReorderiumModel", name := "lost", desc := "(C)I" } : Jvm.MethodName)) ∈ lw_all := lw_g (lw_at lw_m13 72 rfl) rfl
theorem q3061 : (Jvm.Cond.selects "ReorderiumModel" ({ cls := "ReorderiumModel", name := "lost", desc := "(C)I" } : Jvm.MethodName) ({ cls := "ReorderiumModel", name := "lost", desc := "(C)I" } : Jvm.MethodName)) ∈ lw_all := lw_g (lw_at lw_m13 73 rfl) rfl
theorem q3062 : (Jvm.Cond.code ({ cls := "ReorderiumModel", name := "lost", desc := "(C)I" } : Jvm.MethodName) prog_11_method_91_code (2 : Nat) (Option.some Jvm.ClassFile.FieldType.int)) ∈ lw_all := lw_g (lw_at lw_m13 74 rfl) rfl
theorem q3064 : (Jvm.Cond.instanceMethod ({ cls := "ReorderiumModel", name := "wrong", desc := "()I" } : Jvm.MethodName)) ∈ lw_all := lw_g (lw_at lw_m13 76 rfl) rfl
theorem q3065 : (Jvm.Cond.selects "ReorderiumModel" ({ cls := "ReorderiumModel", name := "wrong", desc := "()I" } : Jvm.MethodName) ({ cls := "ReorderiumModel", name := "wrong", desc := "()I" } : Jvm.MethodName)) ∈ lw_all := lw_g (lw_at lw_m13 77 rfl) rfl
theorem q3066 : (Jvm.Cond.code ({ cls := "ReorderiumModel", name := "wrong", desc := "()I" } : Jvm.MethodName) prog_11_method_92_code (1 : Nat) (Option.some Jvm.ClassFile.FieldType.int)) ∈ lw_all := lw_g (lw_at lw_m13 78 rfl) rfl
theorem q3068 : (Jvm.Cond.instanceMethod ({ cls := "ReorderiumModel", name := "early", desc := "()I" } : Jvm.MethodName)) ∈ lw_all := lw_g (lw_at lw_m13 80 rfl) rfl
theorem q3069 : (Jvm.Cond.selects "ReorderiumModel" ({ cls := "ReorderiumModel", name := "early", desc := "()I" } : Jvm.MethodName) ({ cls := "ReorderiumModel", name := "early", desc := "()I" } : Jvm.MethodName)) ∈ lw_all := lw_g (lw_at lw_m13 81 rfl) rfl
theorem q3070 : (Jvm.Cond.code ({ cls := "ReorderiumModel", name := "early", desc := "()I" } : Jvm.MethodName) prog_11_method_93_code (1 : Nat) (Option.some Jvm.ClassFile.FieldType.int)) ∈ lw_all := lw_g (lw_at lw_m13 82 rfl) rfl
theorem q3072 : (Jvm.Cond.instanceMethod ({ cls := "ReorderiumModel", name := "thrownAway", desc := "()I" } : Jvm.MethodName)) ∈ lw_all := lw_g (lw_at lw_m13 84 rfl) rfl
theorem q3073 : (Jvm.Cond.selects "ReorderiumModel" ({ cls := "ReorderiumModel", name := "thrownAway", desc := "()I" } : Jvm.MethodName) ({ cls := "ReorderiumModel", name := "thrownAway", desc := "()I" } : Jvm.MethodName)) ∈ lw_all := lw_g (lw_at lw_m13 85 rfl) rfl
theorem q3074 : (Jvm.Cond.code ({ cls := "ReorderiumModel", name := "thrownAway", desc := "()I" } : Jvm.MethodName) prog_11_method_94_code (1 : Nat) (Option.some Jvm.ClassFile.FieldType.int)) ∈ lw_all := lw_g (lw_at lw_m13 86 rfl) rfl
theorem q3076 : (Jvm.Cond.instanceMethod ({ cls := "ReorderiumModel", name := "taken", desc := "()I" } : Jvm.MethodName)) ∈ lw_all := lw_g (lw_at lw_m13 88 rfl) rfl
theorem q3077 : (Jvm.Cond.selects "ReorderiumModel" ({ cls := "ReorderiumModel", name := "taken", desc := "()I" } : Jvm.MethodName) ({ cls := "ReorderiumModel", name := "taken", desc := "()I" } : Jvm.MethodName)) ∈ lw_all := lw_g (lw_at lw_m13 89 rfl) rfl
theorem q3078 : (Jvm.Cond.code ({ cls := "ReorderiumModel", name := "taken", desc := "()I" } : Jvm.MethodName) prog_11_method_95_code (1 : Nat) (Option.some Jvm.ClassFile.FieldType.int)) ∈ lw_all := lw_g (lw_at lw_m13 90 rfl) rfl
theorem q3080 : (Jvm.Cond.instanceMethod ({ cls := "ReorderiumModel", name := "hits", desc := "()J" } : Jvm.MethodName)) ∈ lw_all := lw_g (lw_at lw_m13 92 rfl) rfl
theorem q3081 : (Jvm.Cond.selects "ReorderiumModel" ({ cls := "ReorderiumModel", name := "hits", desc := "()J" } : Jvm.MethodName) ({ cls := "ReorderiumModel", name := "hits", desc := "()J" } : Jvm.MethodName)) ∈ lw_all := lw_g (lw_at lw_m13 93 rfl) rfl
theorem q3082 : (Jvm.Cond.code ({ cls := "ReorderiumModel", name := "hits", desc := "()J" } : Jvm.MethodName) prog_11_method_96_code (1 : Nat) (Option.some Jvm.ClassFile.FieldType.long)) ∈ lw_all := lw_g (lw_at lw_m13 94 rfl) rfl
theorem q3083 : (Jvm.Cond.constantLong "ReorderiumModel" (365 : Nat) (1000 : Int64)) ∈ lw_all := lw_g (lw_at lw_m13 95 rfl) rfl
theorem q3085 : (Jvm.Cond.instanceMethod ({ cls := "ReorderiumModel", name := "share", desc := "()F" } : Jvm.MethodName)) ∈ lw_all := lw_g (lw_at lw_m13 97 rfl) rfl
theorem q3086 : (Jvm.Cond.selects "ReorderiumModel" ({ cls := "ReorderiumModel", name := "share", desc := "()F" } : Jvm.MethodName) ({ cls := "ReorderiumModel", name := "share", desc := "()F" } : Jvm.MethodName)) ∈ lw_all := lw_g (lw_at lw_m13 98 rfl) rfl
theorem q3087 : (Jvm.Cond.code ({ cls := "ReorderiumModel", name := "share", desc := "()F" } : Jvm.MethodName) prog_11_method_97_code (1 : Nat) (Option.some Jvm.ClassFile.FieldType.float)) ∈ lw_all := lw_g (lw_at lw_m13 99 rfl) rfl
theorem q3089 : (Jvm.Cond.instanceMethod ({ cls := "ReorderiumModel", name := "isSame", desc := "()Z" } : Jvm.MethodName)) ∈ lw_all := lw_g (lw_at lw_m13 101 rfl) rfl
theorem q3090 : (Jvm.Cond.selects "ReorderiumModel" ({ cls := "ReorderiumModel", name := "isSame", desc := "()Z" } : Jvm.MethodName) ({ cls := "ReorderiumModel", name := "isSame", desc := "()Z" } : Jvm.MethodName)) ∈ lw_all := lw_g (lw_at lw_m13 102 rfl) rfl
theorem q3091 : (Jvm.Cond.code ({ cls := "ReorderiumModel", name := "isSame", desc := "()Z" } : Jvm.MethodName) prog_11_method_98_code (1 : Nat) (Option.some Jvm.ClassFile.FieldType.boolean)) ∈ lw_all := lw_g (lw_at lw_m13 103 rfl) rfl
theorem q3093 : (Jvm.Cond.instanceMethod ({ cls := "ReorderiumModel", name := "isWhole", desc := "()Z" } : Jvm.MethodName)) ∈ lw_all := lw_g (lw_at lw_m13 105 rfl) rfl
theorem q3094 : (Jvm.Cond.selects "ReorderiumModel" ({ cls := "ReorderiumModel", name := "isWhole", desc := "()Z" } : Jvm.MethodName) ({ cls := "ReorderiumModel", name := "isWhole", desc := "()Z" } : Jvm.MethodName)) ∈ lw_all := lw_g (lw_at lw_m13 106 rfl) rfl
theorem q3095 : (Jvm.Cond.code ({ cls := "ReorderiumModel", name := "isWhole", desc := "()Z" } : Jvm.MethodName) prog_11_method_99_code (1 : Nat) (Option.some Jvm.ClassFile.FieldType.boolean)) ∈ lw_all := lw_g (lw_at lw_m13 107 rfl) rfl
theorem q3129 : (Jvm.Cond.castable "ReorderiumModel" "java/lang/Object") ∈ lw_tbl := lw_at lw_m13 141 rfl
theorem in_X3 : ∀ w ∈ wsX30, w ∈ lw_all := lw_in wsX30 [2585, 2587, 2589, 2591, 2593, 2595, 2597, 2599, 2601, 2603, 2605, 2607, 2609, 2611, 2613, 2615, 2617, 2619, 2621, 2623, 2625, 2627, 2629, 2631, 2633, 2635, 2637, 2639, 2641, 2643, 2645, 2647, 2649, 2651, 2653, 2655, 2657, 2659, 2661, 2663, 2665, 2667, 2669, 2671, 2673, 2675, 2677, 2679, 2681, 2683, 2685, 2687, 2689, 2691, 2693, 2695, 2697, 2699, 2701, 2703, 2705] (by decide +kernel) (by decide +kernel)

theorem q138 : (Jvm.Cond.initialized "Reorderium$Instruction") ∈ lw_all := lw_g (lw_at lw_m1 30 rfl) rfl
theorem q721 : (Jvm.Cond.selects "Reorderium$Instruction" ({ cls := "java/lang/Object", name := "getClass", desc := "()Ljava/lang/Class;" } : Jvm.MethodName) ({ cls := "java/lang/Object", name := "getClass", desc := "()Ljava/lang/Class;" } : Jvm.MethodName)) ∈ lw_all := lw_g (lw_at lw_m3 133 rfl) rfl
theorem q1362 : (Jvm.Cond.instanceMethod ({ cls := "Reorderium$Instruction", name := "traps", desc := "(I)Z" } : Jvm.MethodName)) ∈ lw_all := lw_g (lw_at lw_m6 54 rfl) rfl
theorem q1363 : (Jvm.Cond.selects "Reorderium$Instruction" ({ cls := "Reorderium$Instruction", name := "traps", desc := "(I)Z" } : Jvm.MethodName) ({ cls := "Reorderium$Instruction", name := "traps", desc := "(I)Z" } : Jvm.MethodName)) ∈ lw_all := lw_g (lw_at lw_m6 55 rfl) rfl
theorem q1364 : (Jvm.Cond.code ({ cls := "Reorderium$Instruction", name := "traps", desc := "(I)Z" } : Jvm.MethodName) prog_7_method_12_code (2 : Nat) (Option.some Jvm.ClassFile.FieldType.boolean)) ∈ lw_all := lw_g (lw_at lw_m6 56 rfl) rfl
theorem q1366 : (Jvm.Cond.instanceMethod ({ cls := "Reorderium$Instruction", name := "isForMemory", desc := "()Z" } : Jvm.MethodName)) ∈ lw_all := lw_g (lw_at lw_m6 58 rfl) rfl
theorem q1367 : (Jvm.Cond.selects "Reorderium$Instruction" ({ cls := "Reorderium$Instruction", name := "isForMemory", desc := "()Z" } : Jvm.MethodName) ({ cls := "Reorderium$Instruction", name := "isForMemory", desc := "()Z" } : Jvm.MethodName)) ∈ lw_all := lw_g (lw_at lw_m6 59 rfl) rfl
theorem q1368 : (Jvm.Cond.code ({ cls := "Reorderium$Instruction", name := "isForMemory", desc := "()Z" } : Jvm.MethodName) prog_7_method_4_code (1 : Nat) (Option.some Jvm.ClassFile.FieldType.boolean)) ∈ lw_all := lw_g (lw_at lw_m6 60 rfl) rfl
theorem q1369 : (Jvm.Cond.methodLink "Reorderium$Instruction" (31 : Nat) ({ cls := "Reorderium$Instruction", name := "isStore", desc := "()Z" } : Jvm.MethodName)) ∈ lw_all := lw_g (lw_at lw_m6 61 rfl) rfl
theorem q1370 : (Jvm.Cond.instanceMethod ({ cls := "Reorderium$Instruction", name := "isStore", desc := "()Z" } : Jvm.MethodName)) ∈ lw_all := lw_g (lw_at lw_m6 62 rfl) rfl
theorem q1371 : (Jvm.Cond.selects "Reorderium$Instruction" ({ cls := "Reorderium$Instruction", name := "isStore", desc := "()Z" } : Jvm.MethodName) ({ cls := "Reorderium$Instruction", name := "isStore", desc := "()Z" } : Jvm.MethodName)) ∈ lw_all := lw_g (lw_at lw_m6 63 rfl) rfl
theorem q1372 : (Jvm.Cond.code ({ cls := "Reorderium$Instruction", name := "isStore", desc := "()Z" } : Jvm.MethodName) prog_7_method_3_code (1 : Nat) (Option.some Jvm.ClassFile.FieldType.boolean)) ∈ lw_all := lw_g (lw_at lw_m6 64 rfl) rfl
theorem q1378 : (Jvm.Cond.instanceMethod ({ cls := "Reorderium$Instruction", name := "isIndirect", desc := "()Z" } : Jvm.MethodName)) ∈ lw_all := lw_g (lw_at lw_m6 70 rfl) rfl
theorem q1379 : (Jvm.Cond.selects "Reorderium$Instruction" ({ cls := "Reorderium$Instruction", name := "isIndirect", desc := "()Z" } : Jvm.MethodName) ({ cls := "Reorderium$Instruction", name := "isIndirect", desc := "()Z" } : Jvm.MethodName)) ∈ lw_all := lw_g (lw_at lw_m6 71 rfl) rfl
theorem q1380 : (Jvm.Cond.code ({ cls := "Reorderium$Instruction", name := "isIndirect", desc := "()Z" } : Jvm.MethodName) prog_7_method_6_code (1 : Nat) (Option.some Jvm.ClassFile.FieldType.boolean)) ∈ lw_all := lw_g (lw_at lw_m6 72 rfl) rfl
theorem q1398 : (Jvm.Cond.instanceMethod ({ cls := "Reorderium$Instruction", name := "stored", desc := "(II)I" } : Jvm.MethodName)) ∈ lw_all := lw_g (lw_at lw_m6 90 rfl) rfl
theorem q1399 : (Jvm.Cond.selects "Reorderium$Instruction" ({ cls := "Reorderium$Instruction", name := "stored", desc := "(II)I" } : Jvm.MethodName) ({ cls := "Reorderium$Instruction", name := "stored", desc := "(II)I" } : Jvm.MethodName)) ∈ lw_all := lw_g (lw_at lw_m6 91 rfl) rfl
theorem q1400 : (Jvm.Cond.code ({ cls := "Reorderium$Instruction", name := "stored", desc := "(II)I" } : Jvm.MethodName) prog_7_method_15_code (3 : Nat) (Option.some Jvm.ClassFile.FieldType.int)) ∈ lw_all := lw_g (lw_at lw_m6 92 rfl) rfl
theorem q1401 : (Jvm.Cond.constant "Reorderium$Instruction" (50 : Nat) (-65536 : Int32)) ∈ lw_all := lw_g (lw_at lw_m6 93 rfl) rfl
theorem q1402 : (Jvm.Cond.constant "Reorderium$Instruction" (51 : Nat) (65535 : Int32)) ∈ lw_all := lw_g (lw_at lw_m6 94 rfl) rfl
theorem q1404 : (Jvm.Cond.instanceMethod ({ cls := "Reorderium$Instruction", name := "hasResult", desc := "()Z" } : Jvm.MethodName)) ∈ lw_all := lw_g (lw_at lw_m6 96 rfl) rfl
theorem q1405 : (Jvm.Cond.selects "Reorderium$Instruction" ({ cls := "Reorderium$Instruction", name := "hasResult", desc := "()Z" } : Jvm.MethodName) ({ cls := "Reorderium$Instruction", name := "hasResult", desc := "()Z" } : Jvm.MethodName)) ∈ lw_all := lw_g (lw_at lw_m6 97 rfl) rfl
theorem q1406 : (Jvm.Cond.code ({ cls := "Reorderium$Instruction", name := "hasResult", desc := "()Z" } : Jvm.MethodName) prog_7_method_2_code (1 : Nat) (Option.some Jvm.ClassFile.FieldType.boolean)) ∈ lw_all := lw_g (lw_at lw_m6 98 rfl) rfl
theorem q1407 : (Jvm.Cond.methodLinkNest "Reorderium$Instruction" (27 : Nat) ({ cls := "Reorderium", name := "isBetween", desc := "(III)Z" } : Jvm.MethodName) "Reorderium") ∈ lw_tbl := lw_at lw_m6 99 rfl
theorem q1409 : (Jvm.Cond.instanceMethod ({ cls := "Reorderium$Instruction", name := "reckon", desc := "(II)I" } : Jvm.MethodName)) ∈ lw_all := lw_g (lw_at lw_m6 101 rfl) rfl
theorem q1410 : (Jvm.Cond.selects "Reorderium$Instruction" ({ cls := "Reorderium$Instruction", name := "reckon", desc := "(II)I" } : Jvm.MethodName) ({ cls := "Reorderium$Instruction", name := "reckon", desc := "(II)I" } : Jvm.MethodName)) ∈ lw_all := lw_g (lw_at lw_m6 102 rfl) rfl
theorem q1411 : (Jvm.Cond.code ({ cls := "Reorderium$Instruction", name := "reckon", desc := "(II)I" } : Jvm.MethodName) prog_7_method_13_code (3 : Nat) (Option.some Jvm.ClassFile.FieldType.int)) ∈ lw_all := lw_g (lw_at lw_m6 103 rfl) rfl
theorem q1413 : (Jvm.Cond.instanceMethod ({ cls := "Reorderium$Instruction", name := "isCondition", desc := "()Z" } : Jvm.MethodName)) ∈ lw_all := lw_g (lw_at lw_m6 105 rfl) rfl
theorem q1414 : (Jvm.Cond.selects "Reorderium$Instruction" ({ cls := "Reorderium$Instruction", name := "isCondition", desc := "()Z" } : Jvm.MethodName) ({ cls := "Reorderium$Instruction", name := "isCondition", desc := "()Z" } : Jvm.MethodName)) ∈ lw_all := lw_g (lw_at lw_m6 106 rfl) rfl
theorem q1415 : (Jvm.Cond.code ({ cls := "Reorderium$Instruction", name := "isCondition", desc := "()Z" } : Jvm.MethodName) prog_7_method_5_code (1 : Nat) (Option.some Jvm.ClassFile.FieldType.boolean)) ∈ lw_all := lw_g (lw_at lw_m6 107 rfl) rfl
theorem q1417 : (Jvm.Cond.instanceMethod ({ cls := "Reorderium$Instruction", name := "isFulfilled", desc := "(II)Z" } : Jvm.MethodName)) ∈ lw_all := lw_g (lw_at lw_m6 109 rfl) rfl
theorem q1418 : (Jvm.Cond.selects "Reorderium$Instruction" ({ cls := "Reorderium$Instruction", name := "isFulfilled", desc := "(II)Z" } : Jvm.MethodName) ({ cls := "Reorderium$Instruction", name := "isFulfilled", desc := "(II)Z" } : Jvm.MethodName)) ∈ lw_all := lw_g (lw_at lw_m6 110 rfl) rfl
theorem q1419 : (Jvm.Cond.code ({ cls := "Reorderium$Instruction", name := "isFulfilled", desc := "(II)Z" } : Jvm.MethodName) prog_7_method_14_code (3 : Nat) (Option.some Jvm.ClassFile.FieldType.boolean)) ∈ lw_all := lw_g (lw_at lw_m6 111 rfl) rfl
theorem q1503 : (Jvm.Cond.instantiable "Reorderium$Instruction" (5 : Nat)) ∈ lw_all := lw_g (lw_at lw_m6 195 rfl) rfl
theorem q1505 : (Jvm.Cond.instanceMethod ({ cls := "Reorderium$Instruction", name := "<init>", desc := "(IIIII)V" } : Jvm.MethodName)) ∈ lw_all := lw_g (lw_at lw_m6 197 rfl) rfl
theorem q1506 : (Jvm.Cond.code ({ cls := "Reorderium$Instruction", name := "<init>", desc := "(IIIII)V" } : Jvm.MethodName) prog_7_method_1_code (6 : Nat) (Option.none : Option Jvm.ClassFile.FieldType)) ∈ lw_all := lw_g (lw_at lw_m6 198 rfl) rfl
theorem q1507 : (Jvm.Cond.methodLink "Reorderium$Instruction" (3 : Nat) ({ cls := "java/lang/Object", name := "<init>", desc := "()V" } : Jvm.MethodName)) ∈ lw_all := lw_g (lw_at lw_m6 199 rfl) rfl
theorem q1508 : (Jvm.Cond.fieldLink "Reorderium$Instruction" (9 : Nat) "Reorderium$Instruction" "code" "I") ∈ lw_all := lw_g (lw_at lw_m6 200 rfl) rfl
theorem q1512 : (Jvm.Cond.fieldLink "Reorderium$Instruction" (15 : Nat) "Reorderium$Instruction" "d" "I") ∈ lw_all := lw_g (lw_at lw_m6 204 rfl) rfl
theorem q1515 : (Jvm.Cond.fieldLink "Reorderium$Instruction" (18 : Nat) "Reorderium$Instruction" "a" "I") ∈ lw_all := lw_g (lw_at lw_m6 207 rfl) rfl
theorem q1518 : (Jvm.Cond.fieldLink "Reorderium$Instruction" (21 : Nat) "Reorderium$Instruction" "b" "I") ∈ lw_all := lw_g (lw_at lw_m6 210 rfl) rfl
theorem q1521 : (Jvm.Cond.fieldLink "Reorderium$Instruction" (24 : Nat) "Reorderium$Instruction" "n" "I") ∈ lw_all := lw_g (lw_at lw_m6 213 rfl) rfl
theorem q1524 : (Jvm.Cond.laysFinal "Reorderium$Instruction" "Reorderium$Instruction" "code" "I") ∈ lw_all := lw_g (lw_at lw_m6 216 rfl) rfl
theorem q1525 : (Jvm.Cond.soleField "Reorderium$Instruction" "code") ∈ lw_all := lw_g (lw_at lw_m6 217 rfl) rfl
theorem q1526 : (Jvm.Cond.laysFinal "Reorderium$Instruction" "Reorderium$Instruction" "d" "I") ∈ lw_all := lw_g (lw_at lw_m6 218 rfl) rfl
theorem q1527 : (Jvm.Cond.soleField "Reorderium$Instruction" "d") ∈ lw_all := lw_g (lw_at lw_m6 219 rfl) rfl
theorem q1528 : (Jvm.Cond.laysFinal "Reorderium$Instruction" "Reorderium$Instruction" "a" "I") ∈ lw_all := lw_g (lw_at lw_m6 220 rfl) rfl
theorem q1529 : (Jvm.Cond.soleField "Reorderium$Instruction" "a") ∈ lw_all := lw_g (lw_at lw_m6 221 rfl) rfl
theorem q1530 : (Jvm.Cond.laysFinal "Reorderium$Instruction" "Reorderium$Instruction" "b" "I") ∈ lw_all := lw_g (lw_at lw_m6 222 rfl) rfl
theorem q1531 : (Jvm.Cond.soleField "Reorderium$Instruction" "b") ∈ lw_all := lw_g (lw_at lw_m6 223 rfl) rfl
theorem q1532 : (Jvm.Cond.laysFinal "Reorderium$Instruction" "Reorderium$Instruction" "n" "I") ∈ lw_all := lw_g (lw_at lw_m6 224 rfl) rfl
theorem q1533 : (Jvm.Cond.soleField "Reorderium$Instruction" "n") ∈ lw_all := lw_g (lw_at lw_m6 225 rfl) rfl
theorem q1534 : (Jvm.Cond.superclass "Reorderium$Instruction" "java/lang/Object") ∈ lw_all := lw_g (lw_at lw_m6 226 rfl) rfl
theorem q2040 : (Jvm.Cond.instanceMethod ({ cls := "Reorderium$Instruction", name := "needsA", desc := "()Z" } : Jvm.MethodName)) ∈ lw_all := lw_g (lw_at lw_m9 12 rfl) rfl
theorem q2041 : (Jvm.Cond.selects "Reorderium$Instruction" ({ cls := "Reorderium$Instruction", name := "needsA", desc := "()Z" } : Jvm.MethodName) ({ cls := "Reorderium$Instruction", name := "needsA", desc := "()Z" } : Jvm.MethodName)) ∈ lw_all := lw_g (lw_at lw_m9 13 rfl) rfl
theorem q2042 : (Jvm.Cond.code ({ cls := "Reorderium$Instruction", name := "needsA", desc := "()Z" } : Jvm.MethodName) prog_7_method_10_code (1 : Nat) (Option.some Jvm.ClassFile.FieldType.boolean)) ∈ lw_all := lw_g (lw_at lw_m9 14 rfl) rfl
theorem q2043 : (Jvm.Cond.methodLink "Reorderium$Instruction" (41 : Nat) ({ cls := "Reorderium$Instruction", name := "isForQueue", desc := "()Z" } : Jvm.MethodName)) ∈ lw_all := lw_g (lw_at lw_m9 15 rfl) rfl
theorem q2044 : (Jvm.Cond.instanceMethod ({ cls := "Reorderium$Instruction", name := "isForQueue", desc := "()Z" } : Jvm.MethodName)) ∈ lw_all := lw_g (lw_at lw_m9 16 rfl) rfl
theorem q2045 : (Jvm.Cond.selects "Reorderium$Instruction" ({ cls := "Reorderium$Instruction", name := "isForQueue", desc := "()Z" } : Jvm.MethodName) ({ cls := "Reorderium$Instruction", name := "isForQueue", desc := "()Z" } : Jvm.MethodName)) ∈ lw_all := lw_g (lw_at lw_m9 17 rfl) rfl
theorem q2046 : (Jvm.Cond.code ({ cls := "Reorderium$Instruction", name := "isForQueue", desc := "()Z" } : Jvm.MethodName) prog_7_method_8_code (1 : Nat) (Option.some Jvm.ClassFile.FieldType.boolean)) ∈ lw_all := lw_g (lw_at lw_m9 18 rfl) rfl
theorem q2047 : (Jvm.Cond.methodLink "Reorderium$Instruction" (38 : Nat) ({ cls := "Reorderium$Instruction", name := "isIndirect", desc := "()Z" } : Jvm.MethodName)) ∈ lw_all := lw_g (lw_at lw_m9 19 rfl) rfl
theorem q2049 : (Jvm.Cond.instanceMethod ({ cls := "Reorderium$Instruction", name := "needsBToBegin", desc := "()Z" } : Jvm.MethodName)) ∈ lw_all := lw_g (lw_at lw_m9 21 rfl) rfl
theorem q2050 : (Jvm.Cond.selects "Reorderium$Instruction" ({ cls := "Reorderium$Instruction", name := "needsBToBegin", desc := "()Z" } : Jvm.MethodName) ({ cls := "Reorderium$Instruction", name := "needsBToBegin", desc := "()Z" } : Jvm.MethodName)) ∈ lw_all := lw_g (lw_at lw_m9 22 rfl) rfl
theorem q2051 : (Jvm.Cond.code ({ cls := "Reorderium$Instruction", name := "needsBToBegin", desc := "()Z" } : Jvm.MethodName) prog_7_method_11_code (1 : Nat) (Option.some Jvm.ClassFile.FieldType.boolean)) ∈ lw_all := lw_g (lw_at lw_m9 23 rfl) rfl
theorem q2052 : (Jvm.Cond.methodLink "Reorderium$Instruction" (44 : Nat) ({ cls := "Reorderium$Instruction", name := "needsA", desc := "()Z" } : Jvm.MethodName)) ∈ lw_all := lw_g (lw_at lw_m9 24 rfl) rfl
theorem q2053 : (Jvm.Cond.methodLink "Reorderium$Instruction" (47 : Nat) ({ cls := "Reorderium$Instruction", name := "isForMemory", desc := "()Z" } : Jvm.MethodName)) ∈ lw_all := lw_g (lw_at lw_m9 25 rfl) rfl
theorem q2135 : (Jvm.Cond.instanceMethod ({ cls := "Reorderium$Instruction", name := "standsAlone", desc := "()Z" } : Jvm.MethodName)) ∈ lw_all := lw_g (lw_at lw_m9 107 rfl) rfl
theorem q2136 : (Jvm.Cond.selects "Reorderium$Instruction" ({ cls := "Reorderium$Instruction", name := "standsAlone", desc := "()Z" } : Jvm.MethodName) ({ cls := "Reorderium$Instruction", name := "standsAlone", desc := "()Z" } : Jvm.MethodName)) ∈ lw_all := lw_g (lw_at lw_m9 108 rfl) rfl
theorem q2137 : (Jvm.Cond.code ({ cls := "Reorderium$Instruction", name := "standsAlone", desc := "()Z" } : Jvm.MethodName) prog_7_method_9_code (1 : Nat) (Option.some Jvm.ClassFile.FieldType.boolean)) ∈ lw_all := lw_g (lw_at lw_m9 109 rfl) rfl
theorem q2408 : (Jvm.Cond.selects "Reorderium$Instruction" ({ cls := "java/lang/Object", name := "equals", desc := "(Ljava/lang/Object;)Z" } : Jvm.MethodName) ({ cls := "java/lang/Object", name := "equals", desc := "(Ljava/lang/Object;)Z" } : Jvm.MethodName)) ∈ lw_all := lw_g (lw_at lw_m10 140 rfl) rfl
theorem q3130 : (Jvm.Cond.castable "Reorderium$Instruction" "java/lang/Object") ∈ lw_tbl := lw_at lw_m13 142 rfl
theorem in_X4 : ∀ w ∈ wsX40, w ∈ lw_all := lw_in wsX40 [1524, 1526, 1528, 1530, 1532] (by decide +kernel) (by decide +kernel)

theorem q149 : (Jvm.Cond.initialized "Reorderium$End") ∈ lw_all := lw_g (lw_at lw_m1 41 rfl) rfl
theorem q718 : (Jvm.Cond.selects "Reorderium$End" ({ cls := "java/lang/Object", name := "getClass", desc := "()Ljava/lang/Class;" } : Jvm.MethodName) ({ cls := "java/lang/Object", name := "getClass", desc := "()Ljava/lang/Class;" } : Jvm.MethodName)) ∈ lw_all := lw_g (lw_at lw_m3 130 rfl) rfl
theorem q1855 : (Jvm.Cond.instantiable "Reorderium$End" (4 : Nat)) ∈ lw_all := lw_g (lw_at lw_m8 67 rfl) rfl
theorem q1857 : (Jvm.Cond.instanceMethod ({ cls := "Reorderium$End", name := "<init>", desc := "(IIILReorderium$Flight;)V" } : Jvm.MethodName)) ∈ lw_all := lw_g (lw_at lw_m8 69 rfl) rfl
theorem q1858 : (Jvm.Cond.code ({ cls := "Reorderium$End", name := "<init>", desc := "(IIILReorderium$Flight;)V" } : Jvm.MethodName) prog_4_method_1_code (5 : Nat) (Option.none : Option Jvm.ClassFile.FieldType)) ∈ lw_all := lw_g (lw_at lw_m8 70 rfl) rfl
theorem q1859 : (Jvm.Cond.methodLink "Reorderium$End" (1 : Nat) ({ cls := "java/lang/Object", name := "<init>", desc := "()V" } : Jvm.MethodName)) ∈ lw_all := lw_g (lw_at lw_m8 71 rfl) rfl
theorem q1860 : (Jvm.Cond.fieldLink "Reorderium$End" (7 : Nat) "Reorderium$End" "kind" "I") ∈ lw_all := lw_g (lw_at lw_m8 72 rfl) rfl
theorem q1862 : (Jvm.Cond.fieldLink "Reorderium$End" (13 : Nat) "Reorderium$End" "place" "I") ∈ lw_all := lw_g (lw_at lw_m8 74 rfl) rfl
theorem q1864 : (Jvm.Cond.fieldLink "Reorderium$End" (16 : Nat) "Reorderium$End" "cycle" "I") ∈ lw_all := lw_g (lw_at lw_m8 76 rfl) rfl
theorem q1866 : (Jvm.Cond.fieldLink "Reorderium$End" (19 : Nat) "Reorderium$End" "flight" "LReorderium$Flight;") ∈ lw_all := lw_g (lw_at lw_m8 78 rfl) rfl
theorem q1868 : (Jvm.Cond.laysFinal "Reorderium$End" "Reorderium$End" "kind" "I") ∈ lw_all := lw_g (lw_at lw_m8 80 rfl) rfl
theorem q1869 : (Jvm.Cond.soleField "Reorderium$End" "kind") ∈ lw_all := lw_g (lw_at lw_m8 81 rfl) rfl
theorem q1870 : (Jvm.Cond.laysFinal "Reorderium$End" "Reorderium$End" "place" "I") ∈ lw_all := lw_g (lw_at lw_m8 82 rfl) rfl
theorem q1871 : (Jvm.Cond.soleField "Reorderium$End" "place") ∈ lw_all := lw_g (lw_at lw_m8 83 rfl) rfl
theorem q1872 : (Jvm.Cond.laysFinal "Reorderium$End" "Reorderium$End" "cycle" "I") ∈ lw_all := lw_g (lw_at lw_m8 84 rfl) rfl
theorem q1873 : (Jvm.Cond.soleField "Reorderium$End" "cycle") ∈ lw_all := lw_g (lw_at lw_m8 85 rfl) rfl
theorem q1874 : (Jvm.Cond.laysFinal "Reorderium$End" "Reorderium$End" "flight" "LReorderium$Flight;") ∈ lw_all := lw_g (lw_at lw_m8 86 rfl) rfl
theorem q1875 : (Jvm.Cond.soleField "Reorderium$End" "flight") ∈ lw_all := lw_g (lw_at lw_m8 87 rfl) rfl
theorem q1876 : (Jvm.Cond.superclass "Reorderium$End" "java/lang/Object") ∈ lw_all := lw_g (lw_at lw_m8 88 rfl) rfl
theorem q2405 : (Jvm.Cond.selects "Reorderium$End" ({ cls := "java/lang/Object", name := "equals", desc := "(Ljava/lang/Object;)Z" } : Jvm.MethodName) ({ cls := "java/lang/Object", name := "equals", desc := "(Ljava/lang/Object;)Z" } : Jvm.MethodName)) ∈ lw_all := lw_g (lw_at lw_m10 137 rfl) rfl
theorem q3139 : (Jvm.Cond.castable "Reorderium$End" "java/lang/Object") ∈ lw_tbl := lw_at lw_m13 151 rfl
theorem in_X5 : ∀ w ∈ wsX50, w ∈ lw_all := lw_in wsX50 [1868, 1870, 1872, 1874] (by decide +kernel) (by decide +kernel)

theorem q151 : (Jvm.Cond.initialized "Reorderium$Units") ∈ lw_all := lw_g (lw_at lw_m1 43 rfl) rfl
theorem q723 : (Jvm.Cond.selects "Reorderium$Units" ({ cls := "java/lang/Object", name := "getClass", desc := "()Ljava/lang/Class;" } : Jvm.MethodName) ({ cls := "java/lang/Object", name := "getClass", desc := "()Ljava/lang/Class;" } : Jvm.MethodName)) ∈ lw_all := lw_g (lw_at lw_m3 135 rfl) rfl
theorem q2004 : (Jvm.Cond.instantiable "Reorderium$Units" (4 : Nat)) ∈ lw_all := lw_g (lw_at lw_m8 216 rfl) rfl
theorem q2010 : (Jvm.Cond.instanceMethod ({ cls := "Reorderium$Units", name := "<init>", desc := "(Z)V" } : Jvm.MethodName)) ∈ lw_all := lw_g (lw_at lw_m8 222 rfl) rfl
theorem q2011 : (Jvm.Cond.code ({ cls := "Reorderium$Units", name := "<init>", desc := "(Z)V" } : Jvm.MethodName) prog_9_method_1_code (2 : Nat) (Option.none : Option Jvm.ClassFile.FieldType)) ∈ lw_all := lw_g (lw_at lw_m8 223 rfl) rfl
theorem q2012 : (Jvm.Cond.methodLink "Reorderium$Units" (3 : Nat) ({ cls := "java/lang/Object", name := "<init>", desc := "()V" } : Jvm.MethodName)) ∈ lw_all := lw_g (lw_at lw_m8 224 rfl) rfl
theorem q2013 : (Jvm.Cond.fieldLink "Reorderium$Units" (9 : Nat) "Reorderium$Units" "plain" "I") ∈ lw_all := lw_g (lw_at lw_m8 225 rfl) rfl
theorem q2014 : (Jvm.Cond.fieldLink "Reorderium$Units" (15 : Nat) "Reorderium$Units" "multiplier" "I") ∈ lw_all := lw_g (lw_at lw_m8 226 rfl) rfl
theorem q2015 : (Jvm.Cond.fieldLink "Reorderium$Units" (21 : Nat) "Reorderium$Units" "divider" "I") ∈ lw_all := lw_g (lw_at lw_m8 227 rfl) rfl
theorem q2016 : (Jvm.Cond.fieldLink "Reorderium$Units" (18 : Nat) "Reorderium$Units" "memory" "I") ∈ lw_all := lw_g (lw_at lw_m8 228 rfl) rfl
theorem q2017 : (Jvm.Cond.lays "Reorderium$Units" "Reorderium$Units" "plain" "I") ∈ lw_all := lw_g (lw_at lw_m8 229 rfl) rfl
theorem q2018 : (Jvm.Cond.soleField "Reorderium$Units" "plain") ∈ lw_all := lw_g (lw_at lw_m8 230 rfl) rfl
theorem q2019 : (Jvm.Cond.lays "Reorderium$Units" "Reorderium$Units" "multiplier" "I") ∈ lw_all := lw_g (lw_at lw_m8 231 rfl) rfl
theorem q2020 : (Jvm.Cond.soleField "Reorderium$Units" "multiplier") ∈ lw_all := lw_g (lw_at lw_m8 232 rfl) rfl
theorem q2021 : (Jvm.Cond.lays "Reorderium$Units" "Reorderium$Units" "divider" "I") ∈ lw_all := lw_g (lw_at lw_m8 233 rfl) rfl
theorem q2022 : (Jvm.Cond.soleField "Reorderium$Units" "divider") ∈ lw_all := lw_g (lw_at lw_m8 234 rfl) rfl
theorem q2023 : (Jvm.Cond.lays "Reorderium$Units" "Reorderium$Units" "memory" "I") ∈ lw_all := lw_g (lw_at lw_m8 235 rfl) rfl
theorem q2024 : (Jvm.Cond.soleField "Reorderium$Units" "memory") ∈ lw_all := lw_g (lw_at lw_m8 236 rfl) rfl
theorem q2025 : (Jvm.Cond.superclass "Reorderium$Units" "java/lang/Object") ∈ lw_all := lw_g (lw_at lw_m8 237 rfl) rfl
theorem q2027 : (Jvm.Cond.instanceMethod ({ cls := "Reorderium$Units", name := "has", desc := "(I)Z" } : Jvm.MethodName)) ∈ lw_all := lw_g (lw_at lw_m8 239 rfl) rfl
theorem q2028 : (Jvm.Cond.selects "Reorderium$Units" ({ cls := "Reorderium$Units", name := "has", desc := "(I)Z" } : Jvm.MethodName) ({ cls := "Reorderium$Units", name := "has", desc := "(I)Z" } : Jvm.MethodName)) ∈ lw_all := lw_g (lw_at lw_m9 0 rfl) rfl
theorem q2029 : (Jvm.Cond.code ({ cls := "Reorderium$Units", name := "has", desc := "(I)Z" } : Jvm.MethodName) prog_9_method_2_code (2 : Nat) (Option.some Jvm.ClassFile.FieldType.boolean)) ∈ lw_all := lw_g (lw_at lw_m9 1 rfl) rfl
theorem q2030 : (Jvm.Cond.methodLink "Reorderium$Units" (24 : Nat) ({ cls := "Reorderium$Units", name := "leftFor", desc := "(I)I" } : Jvm.MethodName)) ∈ lw_all := lw_g (lw_at lw_m9 2 rfl) rfl
theorem q2031 : (Jvm.Cond.privateMethod ({ cls := "Reorderium$Units", name := "leftFor", desc := "(I)I" } : Jvm.MethodName)) ∈ lw_tbl := lw_at lw_m9 3 rfl
theorem q2032 : (Jvm.Cond.instanceMethod ({ cls := "Reorderium$Units", name := "leftFor", desc := "(I)I" } : Jvm.MethodName)) ∈ lw_all := lw_g (lw_at lw_m9 4 rfl) rfl
theorem q2033 : (Jvm.Cond.code ({ cls := "Reorderium$Units", name := "leftFor", desc := "(I)I" } : Jvm.MethodName) prog_9_method_3_code (2 : Nat) (Option.some Jvm.ClassFile.FieldType.int)) ∈ lw_all := lw_g (lw_at lw_m9 5 rfl) rfl
theorem q2034 : (Jvm.Cond.methodLinkNest "Reorderium$Units" (28 : Nat) ({ cls := "Reorderium", name := "isBetween", desc := "(III)Z" } : Jvm.MethodName) "Reorderium") ∈ lw_tbl := lw_at lw_m9 6 rfl
theorem q2109 : (Jvm.Cond.instanceMethod ({ cls := "Reorderium$Units", name := "use", desc := "(I)V" } : Jvm.MethodName)) ∈ lw_all := lw_g (lw_at lw_m9 81 rfl) rfl
theorem q2110 : (Jvm.Cond.selects "Reorderium$Units" ({ cls := "Reorderium$Units", name := "use", desc := "(I)V" } : Jvm.MethodName) ({ cls := "Reorderium$Units", name := "use", desc := "(I)V" } : Jvm.MethodName)) ∈ lw_all := lw_g (lw_at lw_m9 82 rfl) rfl
theorem q2111 : (Jvm.Cond.code ({ cls := "Reorderium$Units", name := "use", desc := "(I)V" } : Jvm.MethodName) prog_9_method_4_code (2 : Nat) (Option.none : Option Jvm.ClassFile.FieldType)) ∈ lw_all := lw_g (lw_at lw_m9 83 rfl) rfl
theorem q2410 : (Jvm.Cond.selects "Reorderium$Units" ({ cls := "java/lang/Object", name := "equals", desc := "(Ljava/lang/Object;)Z" } : Jvm.MethodName) ({ cls := "java/lang/Object", name := "equals", desc := "(Ljava/lang/Object;)Z" } : Jvm.MethodName)) ∈ lw_all := lw_g (lw_at lw_m10 142 rfl) rfl
theorem q3140 : (Jvm.Cond.castable "Reorderium$Units" "java/lang/Object") ∈ lw_tbl := lw_at lw_m13 152 rfl
theorem in_X6 : ∀ w ∈ wsX60, w ∈ lw_all := lw_in wsX60 [2017, 2019, 2021, 2023] (by decide +kernel) (by decide +kernel)

theorem q152 : (Jvm.Cond.initialized "Reorderium$Asked") ∈ lw_all := lw_g (lw_at lw_m1 44 rfl) rfl
theorem q717 : (Jvm.Cond.selects "Reorderium$Asked" ({ cls := "java/lang/Object", name := "getClass", desc := "()Ljava/lang/Class;" } : Jvm.MethodName) ({ cls := "java/lang/Object", name := "getClass", desc := "()Ljava/lang/Class;" } : Jvm.MethodName)) ∈ lw_all := lw_g (lw_at lw_m3 129 rfl) rfl
theorem q2082 : (Jvm.Cond.instantiable "Reorderium$Asked" (2 : Nat)) ∈ lw_all := lw_g (lw_at lw_m9 54 rfl) rfl
theorem q2084 : (Jvm.Cond.instanceMethod ({ cls := "Reorderium$Asked", name := "<init>", desc := "(II)V" } : Jvm.MethodName)) ∈ lw_all := lw_g (lw_at lw_m9 56 rfl) rfl
theorem q2085 : (Jvm.Cond.code ({ cls := "Reorderium$Asked", name := "<init>", desc := "(II)V" } : Jvm.MethodName) prog_3_method_1_code (3 : Nat) (Option.none : Option Jvm.ClassFile.FieldType)) ∈ lw_all := lw_g (lw_at lw_m9 57 rfl) rfl
theorem q2086 : (Jvm.Cond.methodLink "Reorderium$Asked" (1 : Nat) ({ cls := "java/lang/Object", name := "<init>", desc := "()V" } : Jvm.MethodName)) ∈ lw_all := lw_g (lw_at lw_m9 58 rfl) rfl
theorem q2087 : (Jvm.Cond.fieldLink "Reorderium$Asked" (7 : Nat) "Reorderium$Asked" "line" "I") ∈ lw_all := lw_g (lw_at lw_m9 59 rfl) rfl
theorem q2089 : (Jvm.Cond.fieldLink "Reorderium$Asked" (13 : Nat) "Reorderium$Asked" "comesIn" "I") ∈ lw_all := lw_g (lw_at lw_m9 61 rfl) rfl
theorem q2091 : (Jvm.Cond.laysFinal "Reorderium$Asked" "Reorderium$Asked" "line" "I") ∈ lw_all := lw_g (lw_at lw_m9 63 rfl) rfl
theorem q2092 : (Jvm.Cond.soleField "Reorderium$Asked" "line") ∈ lw_all := lw_g (lw_at lw_m9 64 rfl) rfl
theorem q2093 : (Jvm.Cond.laysFinal "Reorderium$Asked" "Reorderium$Asked" "comesIn" "I") ∈ lw_all := lw_g (lw_at lw_m9 65 rfl) rfl
theorem q2094 : (Jvm.Cond.soleField "Reorderium$Asked" "comesIn") ∈ lw_all := lw_g (lw_at lw_m9 66 rfl) rfl
theorem q2095 : (Jvm.Cond.superclass "Reorderium$Asked" "java/lang/Object") ∈ lw_all := lw_g (lw_at lw_m9 67 rfl) rfl
theorem q2404 : (Jvm.Cond.selects "Reorderium$Asked" ({ cls := "java/lang/Object", name := "equals", desc := "(Ljava/lang/Object;)Z" } : Jvm.MethodName) ({ cls := "java/lang/Object", name := "equals", desc := "(Ljava/lang/Object;)Z" } : Jvm.MethodName)) ∈ lw_all := lw_g (lw_at lw_m10 136 rfl) rfl
theorem q3141 : (Jvm.Cond.castable "Reorderium$Asked" "java/lang/Object") ∈ lw_tbl := lw_at lw_m13 153 rfl
theorem in_X7 : ∀ w ∈ wsX70, w ∈ lw_all := lw_in wsX70 [2091, 2093] (by decide +kernel) (by decide +kernel)

theorem q153 : (Jvm.Cond.initialized "Reorderium$Flight") ∈ lw_all := lw_g (lw_at lw_m1 45 rfl) rfl
theorem q719 : (Jvm.Cond.selects "Reorderium$Flight" ({ cls := "java/lang/Object", name := "getClass", desc := "()Ljava/lang/Class;" } : Jvm.MethodName) ({ cls := "java/lang/Object", name := "getClass", desc := "()Ljava/lang/Class;" } : Jvm.MethodName)) ∈ lw_all := lw_g (lw_at lw_m3 131 rfl) rfl
theorem q1510 : (Jvm.Cond.fieldLinkNest "Reorderium$Flight" (70 : Nat) "Reorderium$Instruction" "code" "I" "Reorderium") ∈ lw_tbl := lw_at lw_m6 202 rfl
theorem q1777 : (Jvm.Cond.instanceMethod ({ cls := "Reorderium$Flight", name := "end", desc := "(I)V" } : Jvm.MethodName)) ∈ lw_all := lw_g (lw_at lw_m7 229 rfl) rfl
theorem q1778 : (Jvm.Cond.selects "Reorderium$Flight" ({ cls := "Reorderium$Flight", name := "end", desc := "(I)V" } : Jvm.MethodName) ({ cls := "Reorderium$Flight", name := "end", desc := "(I)V" } : Jvm.MethodName)) ∈ lw_all := lw_g (lw_at lw_m7 230 rfl) rfl
theorem q1779 : (Jvm.Cond.code ({ cls := "Reorderium$Flight", name := "end", desc := "(I)V" } : Jvm.MethodName) prog_5_method_7_code (2 : Nat) (Option.none : Option Jvm.ClassFile.FieldType)) ∈ lw_all := lw_g (lw_at lw_m7 231 rfl) rfl
theorem q1789 : (Jvm.Cond.superclass "Reorderium$Flight" "java/lang/Object") ∈ lw_all := lw_g (lw_at lw_m8 1 rfl) rfl
theorem q1791 : (Jvm.Cond.unhidden "Reorderium$Flight" "isOlderThan" "(LReorderium$Aged;)Z") ∈ lw_tbl := lw_at lw_m8 3 rfl
theorem q1799 : (Jvm.Cond.castable "Reorderium$Flight" "Reorderium$Aged") ∈ lw_tbl := lw_at lw_m8 11 rfl
theorem q1800 : (Jvm.Cond.selects "Reorderium$Flight" ({ cls := "Reorderium$Aged", name := "age", desc := "()J" } : Jvm.MethodName) ({ cls := "Reorderium$Flight", name := "age", desc := "()J" } : Jvm.MethodName)) ∈ lw_all := lw_g (lw_at lw_m8 12 rfl) rfl
theorem q1801 : (Jvm.Cond.unhidden "Reorderium$Flight" "age" "()J") ∈ lw_tbl := lw_at lw_m8 13 rfl
theorem q1802 : (Jvm.Cond.instanceMethod ({ cls := "Reorderium$Flight", name := "age", desc := "()J" } : Jvm.MethodName)) ∈ lw_all := lw_g (lw_at lw_m8 14 rfl) rfl
theorem q1803 : (Jvm.Cond.publicMethod ({ cls := "Reorderium$Flight", name := "age", desc := "()J" } : Jvm.MethodName)) ∈ lw_tbl := lw_at lw_m8 15 rfl
theorem q1804 : (Jvm.Cond.code ({ cls := "Reorderium$Flight", name := "age", desc := "()J" } : Jvm.MethodName) prog_5_method_2_code (1 : Nat) (Option.some Jvm.ClassFile.FieldType.long)) ∈ lw_all := lw_g (lw_at lw_m8 16 rfl) rfl
theorem q1806 : (Jvm.Cond.instanceMethod ({ cls := "Reorderium$Flight", name := "hasBegunLoadOf", desc := "(I)Z" } : Jvm.MethodName)) ∈ lw_all := lw_g (lw_at lw_m8 18 rfl) rfl
theorem q1807 : (Jvm.Cond.selects "Reorderium$Flight" ({ cls := "Reorderium$Flight", name := "hasBegunLoadOf", desc := "(I)Z" } : Jvm.MethodName) ({ cls := "Reorderium$Flight", name := "hasBegunLoadOf", desc := "(I)Z" } : Jvm.MethodName)) ∈ lw_all := lw_g (lw_at lw_m8 19 rfl) rfl
theorem q1808 : (Jvm.Cond.code ({ cls := "Reorderium$Flight", name := "hasBegunLoadOf", desc := "(I)Z" } : Jvm.MethodName) prog_5_method_8_code (2 : Nat) (Option.some Jvm.ClassFile.FieldType.boolean)) ∈ lw_all := lw_g (lw_at lw_m8 20 rfl) rfl
theorem q1954 : (Jvm.Cond.instanceMethod ({ cls := "Reorderium$Flight", name := "isOver", desc := "()Z" } : Jvm.MethodName)) ∈ lw_all := lw_g (lw_at lw_m8 166 rfl) rfl
theorem q1955 : (Jvm.Cond.selects "Reorderium$Flight" ({ cls := "Reorderium$Flight", name := "isOver", desc := "()Z" } : Jvm.MethodName) ({ cls := "Reorderium$Flight", name := "isOver", desc := "()Z" } : Jvm.MethodName)) ∈ lw_all := lw_g (lw_at lw_m8 167 rfl) rfl
theorem q1956 : (Jvm.Cond.code ({ cls := "Reorderium$Flight", name := "isOver", desc := "()Z" } : Jvm.MethodName) prog_5_method_3_code (1 : Nat) (Option.some Jvm.ClassFile.FieldType.boolean)) ∈ lw_all := lw_g (lw_at lw_m8 168 rfl) rfl
theorem q2064 : (Jvm.Cond.instanceMethod ({ cls := "Reorderium$Flight", name := "isEndedStore", desc := "()Z" } : Jvm.MethodName)) ∈ lw_all := lw_g (lw_at lw_m9 36 rfl) rfl
theorem q2065 : (Jvm.Cond.selects "Reorderium$Flight" ({ cls := "Reorderium$Flight", name := "isEndedStore", desc := "()Z" } : Jvm.MethodName) ({ cls := "Reorderium$Flight", name := "isEndedStore", desc := "()Z" } : Jvm.MethodName)) ∈ lw_all := lw_g (lw_at lw_m9 37 rfl) rfl
theorem q2066 : (Jvm.Cond.code ({ cls := "Reorderium$Flight", name := "isEndedStore", desc := "()Z" } : Jvm.MethodName) prog_5_method_4_code (1 : Nat) (Option.some Jvm.ClassFile.FieldType.boolean)) ∈ lw_all := lw_g (lw_at lw_m9 38 rfl) rfl
theorem q2067 : (Jvm.Cond.methodLink "Reorderium$Flight" (55 : Nat) ({ cls := "Reorderium$Instruction", name := "isStore", desc := "()Z" } : Jvm.MethodName)) ∈ lw_all := lw_g (lw_at lw_m9 39 rfl) rfl
theorem q2068 : (Jvm.Cond.methodLink "Reorderium$Flight" (61 : Nat) ({ cls := "Reorderium$Flight", name := "isOver", desc := "()Z" } : Jvm.MethodName)) ∈ lw_all := lw_g (lw_at lw_m9 40 rfl) rfl
theorem q2074 : (Jvm.Cond.instanceMethod ({ cls := "Reorderium$Flight", name := "begin", desc := "(II)V" } : Jvm.MethodName)) ∈ lw_all := lw_g (lw_at lw_m9 46 rfl) rfl
theorem q2075 : (Jvm.Cond.selects "Reorderium$Flight" ({ cls := "Reorderium$Flight", name := "begin", desc := "(II)V" } : Jvm.MethodName) ({ cls := "Reorderium$Flight", name := "begin", desc := "(II)V" } : Jvm.MethodName)) ∈ lw_all := lw_g (lw_at lw_m9 47 rfl) rfl
theorem q2076 : (Jvm.Cond.code ({ cls := "Reorderium$Flight", name := "begin", desc := "(II)V" } : Jvm.MethodName) prog_5_method_5_code (3 : Nat) (Option.none : Option Jvm.ClassFile.FieldType)) ∈ lw_all := lw_g (lw_at lw_m9 48 rfl) rfl
theorem q2101 : (Jvm.Cond.instanceMethod ({ cls := "Reorderium$Flight", name := "waitFor", desc := "(II)V" } : Jvm.MethodName)) ∈ lw_all := lw_g (lw_at lw_m9 73 rfl) rfl
theorem q2102 : (Jvm.Cond.selects "Reorderium$Flight" ({ cls := "Reorderium$Flight", name := "waitFor", desc := "(II)V" } : Jvm.MethodName) ({ cls := "Reorderium$Flight", name := "waitFor", desc := "(II)V" } : Jvm.MethodName)) ∈ lw_all := lw_g (lw_at lw_m9 74 rfl) rfl
theorem q2103 : (Jvm.Cond.code ({ cls := "Reorderium$Flight", name := "waitFor", desc := "(II)V" } : Jvm.MethodName) prog_5_method_6_code (3 : Nat) (Option.none : Option Jvm.ClassFile.FieldType)) ∈ lw_all := lw_g (lw_at lw_m9 75 rfl) rfl
theorem q2165 : (Jvm.Cond.instantiable "Reorderium$Flight" (23 : Nat)) ∈ lw_all := lw_g (lw_at lw_m9 137 rfl) rfl
theorem q2167 : (Jvm.Cond.instanceMethod ({ cls := "Reorderium$Flight", name := "<init>", desc := "(LReorderium$Instruction;IIJ[I)V" } : Jvm.MethodName)) ∈ lw_all := lw_g (lw_at lw_m9 139 rfl) rfl
theorem q2168 : (Jvm.Cond.code ({ cls := "Reorderium$Flight", name := "<init>", desc := "(LReorderium$Instruction;IIJ[I)V" } : Jvm.MethodName) prog_5_method_1_code (7 : Nat) (Option.none : Option Jvm.ClassFile.FieldType)) ∈ lw_all := lw_g (lw_at lw_m9 140 rfl) rfl
theorem q2169 : (Jvm.Cond.methodLink "Reorderium$Flight" (3 : Nat) ({ cls := "java/lang/Object", name := "<init>", desc := "()V" } : Jvm.MethodName)) ∈ lw_all := lw_g (lw_at lw_m9 141 rfl) rfl
theorem q2170 : (Jvm.Cond.fieldLink "Reorderium$Flight" (34 : Nat) "Reorderium$Flight" "instruction" "LReorderium$Instruction;") ∈ lw_all := lw_g (lw_at lw_m9 142 rfl) rfl
theorem q2172 : (Jvm.Cond.fieldLink "Reorderium$Flight" (38 : Nat) "Reorderium$Flight" "place" "I") ∈ lw_all := lw_g (lw_at lw_m9 144 rfl) rfl
theorem q2174 : (Jvm.Cond.fieldLink "Reorderium$Flight" (45 : Nat) "Reorderium$Flight" "fetchedIn" "I") ∈ lw_all := lw_g (lw_at lw_m9 146 rfl) rfl
theorem q2176 : (Jvm.Cond.fieldLink "Reorderium$Flight" (41 : Nat) "Reorderium$Flight" "age" "J") ∈ lw_all := lw_g (lw_at lw_m9 148 rfl) rfl
theorem q2177 : (Jvm.Cond.fieldLink "Reorderium$Flight" (48 : Nat) "Reorderium$Flight" "returnsBefore" "[I") ∈ lw_all := lw_g (lw_at lw_m9 149 rfl) rfl
theorem q2181 : (Jvm.Cond.fieldLink "Reorderium$Flight" (9 : Nat) "Reorderium$Flight" "renamedIn" "I") ∈ lw_all := lw_g (lw_at lw_m9 153 rfl) rfl
theorem q2183 : (Jvm.Cond.fieldLink "Reorderium$Flight" (15 : Nat) "Reorderium$Flight" "begunIn" "I") ∈ lw_all := lw_g (lw_at lw_m9 155 rfl) rfl
theorem q2185 : (Jvm.Cond.fieldLink "Reorderium$Flight" (18 : Nat) "Reorderium$Flight" "endedIn" "I") ∈ lw_all := lw_g (lw_at lw_m9 157 rfl) rfl
theorem q2189 : (Jvm.Cond.fieldLink "Reorderium$Flight" (21 : Nat) "Reorderium$Flight" "innerD" "I") ∈ lw_all := lw_g (lw_at lw_m9 161 rfl) rfl
theorem q2191 : (Jvm.Cond.fieldLink "Reorderium$Flight" (24 : Nat) "Reorderium$Flight" "innerBefore" "I") ∈ lw_all := lw_g (lw_at lw_m9 163 rfl) rfl
theorem q2193 : (Jvm.Cond.fieldLink "Reorderium$Flight" (27 : Nat) "Reorderium$Flight" "stage" "C") ∈ lw_all := lw_g (lw_at lw_m9 165 rfl) rfl
theorem q2195 : (Jvm.Cond.fieldLink "Reorderium$Flight" (67 : Nat) "Reorderium$Flight" "endsIn" "I") ∈ lw_all := lw_g (lw_at lw_m9 167 rfl) rfl
theorem q2197 : (Jvm.Cond.fieldLink "Reorderium$Flight" (64 : Nat) "Reorderium$Flight" "trap" "I") ∈ lw_all := lw_g (lw_at lw_m9 169 rfl) rfl
theorem q2199 : (Jvm.Cond.fieldLink "Reorderium$Flight" (73 : Nat) "Reorderium$Flight" "address" "I") ∈ lw_all := lw_g (lw_at lw_m9 171 rfl) rfl
theorem q2202 : (Jvm.Cond.fieldLink "Reorderium$Flight" (52 : Nat) "Reorderium$Flight" "next" "I") ∈ lw_all := lw_g (lw_at lw_m9 174 rfl) rfl
theorem q2204 : (Jvm.Cond.fieldLink "Reorderium$Flight" (31 : Nat) "Reorderium$Flight" "line" "I") ∈ lw_all := lw_g (lw_at lw_m9 176 rfl) rfl
theorem q2208 : (Jvm.Cond.laysFinal "Reorderium$Flight" "Reorderium$Flight" "instruction" "LReorderium$Instruction;") ∈ lw_all := lw_g (lw_at lw_m9 180 rfl) rfl
theorem q2209 : (Jvm.Cond.soleField "Reorderium$Flight" "instruction") ∈ lw_all := lw_g (lw_at lw_m9 181 rfl) rfl
theorem q2210 : (Jvm.Cond.laysFinal "Reorderium$Flight" "Reorderium$Flight" "place" "I") ∈ lw_all := lw_g (lw_at lw_m9 182 rfl) rfl
theorem q2211 : (Jvm.Cond.soleField "Reorderium$Flight" "place") ∈ lw_all := lw_g (lw_at lw_m9 183 rfl) rfl
theorem q2212 : (Jvm.Cond.laysFinal "Reorderium$Flight" "Reorderium$Flight" "fetchedIn" "I") ∈ lw_all := lw_g (lw_at lw_m9 184 rfl) rfl
theorem q2213 : (Jvm.Cond.soleField "Reorderium$Flight" "fetchedIn") ∈ lw_all := lw_g (lw_at lw_m9 185 rfl) rfl
theorem q2214 : (Jvm.Cond.laysFinal "Reorderium$Flight" "Reorderium$Flight" "age" "J") ∈ lw_all := lw_g (lw_at lw_m9 186 rfl) rfl
theorem q2215 : (Jvm.Cond.soleField "Reorderium$Flight" "age") ∈ lw_all := lw_g (lw_at lw_m9 187 rfl) rfl
theorem q2216 : (Jvm.Cond.laysFinal "Reorderium$Flight" "Reorderium$Flight" "returnsBefore" "[I") ∈ lw_all := lw_g (lw_at lw_m9 188 rfl) rfl
theorem q2217 : (Jvm.Cond.soleField "Reorderium$Flight" "returnsBefore") ∈ lw_all := lw_g (lw_at lw_m9 189 rfl) rfl
theorem q2218 : (Jvm.Cond.lays "Reorderium$Flight" "Reorderium$Flight" "returnsThen" "[I") ∈ lw_all := lw_g (lw_at lw_m9 190 rfl) rfl
theorem q2219 : (Jvm.Cond.soleField "Reorderium$Flight" "returnsThen") ∈ lw_all := lw_g (lw_at lw_m9 191 rfl) rfl
theorem q2220 : (Jvm.Cond.lays "Reorderium$Flight" "Reorderium$Flight" "guess" "I") ∈ lw_all := lw_g (lw_at lw_m9 192 rfl) rfl
theorem q2221 : (Jvm.Cond.soleField "Reorderium$Flight" "guess") ∈ lw_all := lw_g (lw_at lw_m9 193 rfl) rfl
theorem q2222 : (Jvm.Cond.lays "Reorderium$Flight" "Reorderium$Flight" "renamedIn" "I") ∈ lw_all := lw_g (lw_at lw_m9 194 rfl) rfl
theorem q2223 : (Jvm.Cond.soleField "Reorderium$Flight" "renamedIn") ∈ lw_all := lw_g (lw_at lw_m9 195 rfl) rfl
theorem q2224 : (Jvm.Cond.lays "Reorderium$Flight" "Reorderium$Flight" "begunIn" "I") ∈ lw_all := lw_g (lw_at lw_m9 196 rfl) rfl
theorem q2225 : (Jvm.Cond.soleField "Reorderium$Flight" "begunIn") ∈ lw_all := lw_g (lw_at lw_m9 197 rfl) rfl
theorem q2226 : (Jvm.Cond.lays "Reorderium$Flight" "Reorderium$Flight" "endedIn" "I") ∈ lw_all := lw_g (lw_at lw_m9 198 rfl) rfl
theorem q2227 : (Jvm.Cond.soleField "Reorderium$Flight" "endedIn") ∈ lw_all := lw_g (lw_at lw_m9 199 rfl) rfl
theorem q2228 : (Jvm.Cond.lays "Reorderium$Flight" "Reorderium$Flight" "innerA" "I") ∈ lw_all := lw_g (lw_at lw_m9 200 rfl) rfl
theorem q2229 : (Jvm.Cond.soleField "Reorderium$Flight" "innerA") ∈ lw_all := lw_g (lw_at lw_m9 201 rfl) rfl
theorem q2230 : (Jvm.Cond.lays "Reorderium$Flight" "Reorderium$Flight" "innerB" "I") ∈ lw_all := lw_g (lw_at lw_m9 202 rfl) rfl
theorem q2231 : (Jvm.Cond.soleField "Reorderium$Flight" "innerB") ∈ lw_all := lw_g (lw_at lw_m9 203 rfl) rfl
theorem q2232 : (Jvm.Cond.lays "Reorderium$Flight" "Reorderium$Flight" "innerD" "I") ∈ lw_all := lw_g (lw_at lw_m9 204 rfl) rfl
theorem q2233 : (Jvm.Cond.soleField "Reorderium$Flight" "innerD") ∈ lw_all := lw_g (lw_at lw_m9 205 rfl) rfl
theorem q2234 : (Jvm.Cond.lays "Reorderium$Flight" "Reorderium$Flight" "innerBefore" "I") ∈ lw_all := lw_g (lw_at lw_m9 206 rfl) rfl
theorem q2235 : (Jvm.Cond.soleField "Reorderium$Flight" "innerBefore") ∈ lw_all := lw_g (lw_at lw_m9 207 rfl) rfl
theorem q2236 : (Jvm.Cond.lays "Reorderium$Flight" "Reorderium$Flight" "stage" "C") ∈ lw_all := lw_g (lw_at lw_m9 208 rfl) rfl
theorem q2237 : (Jvm.Cond.soleField "Reorderium$Flight" "stage") ∈ lw_all := lw_g (lw_at lw_m9 209 rfl) rfl
theorem q2238 : (Jvm.Cond.lays "Reorderium$Flight" "Reorderium$Flight" "endsIn" "I") ∈ lw_all := lw_g (lw_at lw_m9 210 rfl) rfl
theorem q2239 : (Jvm.Cond.soleField "Reorderium$Flight" "endsIn") ∈ lw_all := lw_g (lw_at lw_m9 211 rfl) rfl
theorem q2240 : (Jvm.Cond.lays "Reorderium$Flight" "Reorderium$Flight" "trap" "I") ∈ lw_all := lw_g (lw_at lw_m9 212 rfl) rfl
theorem q2241 : (Jvm.Cond.soleField "Reorderium$Flight" "trap") ∈ lw_all := lw_g (lw_at lw_m9 213 rfl) rfl
theorem q2242 : (Jvm.Cond.lays "Reorderium$Flight" "Reorderium$Flight" "address" "I") ∈ lw_all := lw_g (lw_at lw_m9 214 rfl) rfl
theorem q2243 : (Jvm.Cond.soleField "Reorderium$Flight" "address") ∈ lw_all := lw_g (lw_at lw_m9 215 rfl) rfl
theorem q2244 : (Jvm.Cond.lays "Reorderium$Flight" "Reorderium$Flight" "value" "I") ∈ lw_all := lw_g (lw_at lw_m9 216 rfl) rfl
theorem q2245 : (Jvm.Cond.soleField "Reorderium$Flight" "value") ∈ lw_all := lw_g (lw_at lw_m9 217 rfl) rfl
theorem q2246 : (Jvm.Cond.lays "Reorderium$Flight" "Reorderium$Flight" "next" "I") ∈ lw_all := lw_g (lw_at lw_m9 218 rfl) rfl
theorem q2247 : (Jvm.Cond.soleField "Reorderium$Flight" "next") ∈ lw_all := lw_g (lw_at lw_m9 219 rfl) rfl
theorem q2248 : (Jvm.Cond.lays "Reorderium$Flight" "Reorderium$Flight" "line" "I") ∈ lw_all := lw_g (lw_at lw_m9 220 rfl) rfl
theorem q2249 : (Jvm.Cond.soleField "Reorderium$Flight" "line") ∈ lw_all := lw_g (lw_at lw_m9 221 rfl) rfl
theorem q2250 : (Jvm.Cond.lays "Reorderium$Flight" "Reorderium$Flight" "source" "LReorderium$Flight;") ∈ lw_all := lw_g (lw_at lw_m9 222 rfl) rfl
theorem q2251 : (Jvm.Cond.soleField "Reorderium$Flight" "source") ∈ lw_all := lw_g (lw_at lw_m9 223 rfl) rfl
theorem q2252 : (Jvm.Cond.lays "Reorderium$Flight" "Reorderium$Flight" "isThrown" "Z") ∈ lw_all := lw_g (lw_at lw_m9 224 rfl) rfl
theorem q2253 : (Jvm.Cond.soleField "Reorderium$Flight" "isThrown") ∈ lw_all := lw_g (lw_at lw_m9 225 rfl) rfl
theorem q2406 : (Jvm.Cond.selects "Reorderium$Flight" ({ cls := "java/lang/Object", name := "equals", desc := "(Ljava/lang/Object;)Z" } : Jvm.MethodName) ({ cls := "java/lang/Object", name := "equals", desc := "(Ljava/lang/Object;)Z" } : Jvm.MethodName)) ∈ lw_all := lw_g (lw_at lw_m10 138 rfl) rfl
theorem q3142 : (Jvm.Cond.castable "Reorderium$Flight" "java/lang/Object") ∈ lw_tbl := lw_at lw_m13 154 rfl
theorem in_X8 : ∀ w ∈ wsX80, w ∈ lw_all := lw_in wsX80 [2208, 2210, 2212, 2214, 2216, 2218, 2220, 2222, 2224, 2226, 2228, 2230, 2232, 2234, 2236, 2238, 2240, 2242, 2244, 2246, 2248, 2250, 2252] (by decide +kernel) (by decide +kernel)

theorem q155 : (Jvm.Cond.initialized "Reorderium$Plain") ∈ lw_all := lw_g (lw_at lw_m1 47 rfl) rfl
theorem q209 : (Jvm.Cond.fieldLinkNest "Reorderium$Plain" (103 : Nat) "Reorderium$Handling" "isUnderWay" "Z" "Reorderium") ∈ lw_tbl := lw_at lw_m1 101 rfl
theorem q722 : (Jvm.Cond.selects "Reorderium$Plain" ({ cls := "java/lang/Object", name := "getClass", desc := "()Ljava/lang/Class;" } : Jvm.MethodName) ({ cls := "java/lang/Object", name := "getClass", desc := "()Ljava/lang/Class;" } : Jvm.MethodName)) ∈ lw_all := lw_g (lw_at lw_m3 134 rfl) rfl
theorem q957 : (Jvm.Cond.instantiable "Reorderium$Plain" (6 : Nat)) ∈ lw_all := lw_g (lw_at lw_m4 129 rfl) rfl
theorem q965 : (Jvm.Cond.instanceMethod ({ cls := "Reorderium$Plain", name := "<init>", desc := "(Ljava/util/List;[I[ILReorderium$Handling;)V" } : Jvm.MethodName)) ∈ lw_all := lw_g (lw_at lw_m4 137 rfl) rfl
theorem q966 : (Jvm.Cond.code ({ cls := "Reorderium$Plain", name := "<init>", desc := "(Ljava/util/List;[I[ILReorderium$Handling;)V" } : Jvm.MethodName) prog_8_method_1_code (5 : Nat) (Option.none : Option Jvm.ClassFile.FieldType)) ∈ lw_all := lw_g (lw_at lw_m4 138 rfl) rfl
theorem q967 : (Jvm.Cond.methodLink "Reorderium$Plain" (3 : Nat) ({ cls := "java/lang/Object", name := "<init>", desc := "()V" } : Jvm.MethodName)) ∈ lw_all := lw_g (lw_at lw_m4 139 rfl) rfl
theorem q968 : (Jvm.Cond.methodLink "Reorderium$Plain" (26 : Nat) ({ cls := "java/lang/System", name := "arraycopy", desc := "(Ljava/lang/Object;ILjava/lang/Object;II)V" } : Jvm.MethodName)) ∈ lw_all := lw_g (lw_at lw_m4 140 rfl) rfl
theorem q969 : (Jvm.Cond.fieldLink "Reorderium$Plain" (18 : Nat) "Reorderium$Plain" "program" "Ljava/util/List;") ∈ lw_all := lw_g (lw_at lw_m4 141 rfl) rfl
theorem q970 : (Jvm.Cond.fieldLink "Reorderium$Plain" (9 : Nat) "Reorderium$Plain" "registers" "[I") ∈ lw_all := lw_g (lw_at lw_m4 142 rfl) rfl
theorem q972 : (Jvm.Cond.fieldLink "Reorderium$Plain" (15 : Nat) "Reorderium$Plain" "words" "[I") ∈ lw_all := lw_g (lw_at lw_m4 144 rfl) rfl
theorem q974 : (Jvm.Cond.fieldLink "Reorderium$Plain" (22 : Nat) "Reorderium$Plain" "handling" "LReorderium$Handling;") ∈ lw_all := lw_g (lw_at lw_m4 146 rfl) rfl
theorem q976 : (Jvm.Cond.fieldLink "Reorderium$Plain" (32 : Nat) "Reorderium$Plain" "place" "I") ∈ lw_all := lw_g (lw_at lw_m4 148 rfl) rfl
theorem q978 : (Jvm.Cond.fieldLink "Reorderium$Plain" (45 : Nat) "Reorderium$Plain" "hasStopped" "Z") ∈ lw_all := lw_g (lw_at lw_m4 150 rfl) rfl
theorem q979 : (Jvm.Cond.laysFinal "Reorderium$Plain" "Reorderium$Plain" "program" "Ljava/util/List;") ∈ lw_all := lw_g (lw_at lw_m4 151 rfl) rfl
theorem q980 : (Jvm.Cond.soleField "Reorderium$Plain" "program") ∈ lw_all := lw_g (lw_at lw_m4 152 rfl) rfl
theorem q981 : (Jvm.Cond.laysFinal "Reorderium$Plain" "Reorderium$Plain" "registers" "[I") ∈ lw_all := lw_g (lw_at lw_m4 153 rfl) rfl
theorem q982 : (Jvm.Cond.soleField "Reorderium$Plain" "registers") ∈ lw_all := lw_g (lw_at lw_m4 154 rfl) rfl
theorem q983 : (Jvm.Cond.laysFinal "Reorderium$Plain" "Reorderium$Plain" "words" "[I") ∈ lw_all := lw_g (lw_at lw_m4 155 rfl) rfl
theorem q984 : (Jvm.Cond.soleField "Reorderium$Plain" "words") ∈ lw_all := lw_g (lw_at lw_m4 156 rfl) rfl
theorem q985 : (Jvm.Cond.laysFinal "Reorderium$Plain" "Reorderium$Plain" "handling" "LReorderium$Handling;") ∈ lw_all := lw_g (lw_at lw_m4 157 rfl) rfl
theorem q986 : (Jvm.Cond.soleField "Reorderium$Plain" "handling") ∈ lw_all := lw_g (lw_at lw_m4 158 rfl) rfl
theorem q987 : (Jvm.Cond.lays "Reorderium$Plain" "Reorderium$Plain" "place" "I") ∈ lw_all := lw_g (lw_at lw_m4 159 rfl) rfl
theorem q988 : (Jvm.Cond.soleField "Reorderium$Plain" "place") ∈ lw_all := lw_g (lw_at lw_m4 160 rfl) rfl
theorem q989 : (Jvm.Cond.lays "Reorderium$Plain" "Reorderium$Plain" "hasStopped" "Z") ∈ lw_all := lw_g (lw_at lw_m4 161 rfl) rfl
theorem q990 : (Jvm.Cond.soleField "Reorderium$Plain" "hasStopped") ∈ lw_all := lw_g (lw_at lw_m4 162 rfl) rfl
theorem q991 : (Jvm.Cond.superclass "Reorderium$Plain" "java/lang/Object") ∈ lw_all := lw_g (lw_at lw_m4 163 rfl) rfl
theorem q1330 : (Jvm.Cond.instanceMethod ({ cls := "Reorderium$Plain", name := "interrupt", desc := "()I" } : Jvm.MethodName)) ∈ lw_all := lw_g (lw_at lw_m6 22 rfl) rfl
theorem q1331 : (Jvm.Cond.selects "Reorderium$Plain" ({ cls := "Reorderium$Plain", name := "interrupt", desc := "()I" } : Jvm.MethodName) ({ cls := "Reorderium$Plain", name := "interrupt", desc := "()I" } : Jvm.MethodName)) ∈ lw_all := lw_g (lw_at lw_m6 23 rfl) rfl
theorem q1332 : (Jvm.Cond.code ({ cls := "Reorderium$Plain", name := "interrupt", desc := "()I" } : Jvm.MethodName) prog_8_method_2_code (2 : Nat) (Option.some Jvm.ClassFile.FieldType.int)) ∈ lw_all := lw_g (lw_at lw_m6 24 rfl) rfl
theorem q1333 : (Jvm.Cond.methodLink "Reorderium$Plain" (36 : Nat) ({ cls := "Reorderium$Handling", name := "interrupt", desc := "(I)I" } : Jvm.MethodName)) ∈ lw_all := lw_g (lw_at lw_m6 25 rfl) rfl
theorem q1338 : (Jvm.Cond.instanceMethod ({ cls := "Reorderium$Plain", name := "step", desc := "()I" } : Jvm.MethodName)) ∈ lw_all := lw_g (lw_at lw_m6 30 rfl) rfl
theorem q1339 : (Jvm.Cond.selects "Reorderium$Plain" ({ cls := "Reorderium$Plain", name := "step", desc := "()I" } : Jvm.MethodName) ({ cls := "Reorderium$Plain", name := "step", desc := "()I" } : Jvm.MethodName)) ∈ lw_all := lw_g (lw_at lw_m6 31 rfl) rfl
theorem q1340 : (Jvm.Cond.code ({ cls := "Reorderium$Plain", name := "step", desc := "()I" } : Jvm.MethodName) prog_8_method_4_code (3 : Nat) (Option.some Jvm.ClassFile.FieldType.int)) ∈ lw_all := lw_g (lw_at lw_m6 32 rfl) rfl
theorem q1341 : (Jvm.Cond.interfaceEntry "Reorderium$Plain" (49 : Nat)) ∈ lw_tbl := lw_at lw_m6 33 rfl
theorem q1342 : (Jvm.Cond.methodLink "Reorderium$Plain" (49 : Nat) ({ cls := "java/util/List", name := "size", desc := "()I" } : Jvm.MethodName)) ∈ lw_all := lw_g (lw_at lw_m6 34 rfl) rfl
theorem q1343 : (Jvm.Cond.methodLinkNest "Reorderium$Plain" (55 : Nat) ({ cls := "Reorderium", name := "isBetween", desc := "(III)Z" } : Jvm.MethodName) "Reorderium") ∈ lw_tbl := lw_at lw_m6 35 rfl
theorem q1346 : (Jvm.Cond.interfaceEntry "Reorderium$Plain" (59 : Nat)) ∈ lw_tbl := lw_at lw_m6 38 rfl
theorem q1347 : (Jvm.Cond.methodLink "Reorderium$Plain" (59 : Nat) ({ cls := "java/util/List", name := "get", desc := "(I)Ljava/lang/Object;" } : Jvm.MethodName)) ∈ lw_all := lw_g (lw_at lw_m6 39 rfl) rfl
theorem q1356 : (Jvm.Cond.classLink "Reorderium$Plain" (63 : Nat) "Reorderium$Instruction") ∈ lw_all := lw_g (lw_at lw_m6 48 rfl) rfl
theorem q1357 : (Jvm.Cond.methodLink "Reorderium$Plain" (65 : Nat) ({ cls := "Reorderium$Plain", name := "trapOf", desc := "(LReorderium$Instruction;)I" } : Jvm.MethodName)) ∈ lw_all := lw_g (lw_at lw_m6 49 rfl) rfl
theorem q1358 : (Jvm.Cond.privateMethod ({ cls := "Reorderium$Plain", name := "trapOf", desc := "(LReorderium$Instruction;)I" } : Jvm.MethodName)) ∈ lw_tbl := lw_at lw_m6 50 rfl
theorem q1359 : (Jvm.Cond.instanceMethod ({ cls := "Reorderium$Plain", name := "trapOf", desc := "(LReorderium$Instruction;)I" } : Jvm.MethodName)) ∈ lw_all := lw_g (lw_at lw_m6 51 rfl) rfl
theorem q1360 : (Jvm.Cond.code ({ cls := "Reorderium$Plain", name := "trapOf", desc := "(LReorderium$Instruction;)I" } : Jvm.MethodName) prog_8_method_5_code (3 : Nat) (Option.some Jvm.ClassFile.FieldType.int)) ∈ lw_all := lw_g (lw_at lw_m6 52 rfl) rfl
theorem q1361 : (Jvm.Cond.methodLink "Reorderium$Plain" (80 : Nat) ({ cls := "Reorderium$Instruction", name := "traps", desc := "(I)Z" } : Jvm.MethodName)) ∈ lw_all := lw_g (lw_at lw_m6 53 rfl) rfl
theorem q1365 : (Jvm.Cond.methodLink "Reorderium$Plain" (84 : Nat) ({ cls := "Reorderium$Instruction", name := "isForMemory", desc := "()Z" } : Jvm.MethodName)) ∈ lw_all := lw_g (lw_at lw_m6 57 rfl) rfl
theorem q1373 : (Jvm.Cond.methodLinkNest "Reorderium$Plain" (91 : Nat) ({ cls := "Reorderium", name := "isAddress", desc := "(I)Z" } : Jvm.MethodName) "Reorderium") ∈ lw_tbl := lw_at lw_m6 65 rfl
theorem q1377 : (Jvm.Cond.methodLink "Reorderium$Plain" (94 : Nat) ({ cls := "Reorderium$Instruction", name := "isIndirect", desc := "()Z" } : Jvm.MethodName)) ∈ lw_all := lw_g (lw_at lw_m6 69 rfl) rfl
theorem q1381 : (Jvm.Cond.methodLinkNest "Reorderium$Plain" (97 : Nat) ({ cls := "Reorderium", name := "isPlace", desc := "(I)Z" } : Jvm.MethodName) "Reorderium") ∈ lw_tbl := lw_at lw_m6 73 rfl
theorem q1384 : (Jvm.Cond.methodLink "Reorderium$Plain" (69 : Nat) ({ cls := "Reorderium$Plain", name := "trap", desc := "()V" } : Jvm.MethodName)) ∈ lw_all := lw_g (lw_at lw_m6 76 rfl) rfl
theorem q1385 : (Jvm.Cond.privateMethod ({ cls := "Reorderium$Plain", name := "trap", desc := "()V" } : Jvm.MethodName)) ∈ lw_tbl := lw_at lw_m6 77 rfl
theorem q1386 : (Jvm.Cond.instanceMethod ({ cls := "Reorderium$Plain", name := "trap", desc := "()V" } : Jvm.MethodName)) ∈ lw_all := lw_g (lw_at lw_m6 78 rfl) rfl
theorem q1387 : (Jvm.Cond.code ({ cls := "Reorderium$Plain", name := "trap", desc := "()V" } : Jvm.MethodName) prog_8_method_3_code (1 : Nat) (Option.none : Option Jvm.ClassFile.FieldType)) ∈ lw_all := lw_g (lw_at lw_m6 79 rfl) rfl
theorem q1388 : (Jvm.Cond.methodLink "Reorderium$Plain" (42 : Nat) ({ cls := "Reorderium$Handling", name := "trap", desc := "(I)I" } : Jvm.MethodName)) ∈ lw_all := lw_g (lw_at lw_m6 80 rfl) rfl
theorem q1392 : (Jvm.Cond.methodLink "Reorderium$Plain" (71 : Nat) ({ cls := "Reorderium$Plain", name := "doneBy", desc := "(LReorderium$Instruction;)I" } : Jvm.MethodName)) ∈ lw_all := lw_g (lw_at lw_m6 84 rfl) rfl
theorem q1393 : (Jvm.Cond.privateMethod ({ cls := "Reorderium$Plain", name := "doneBy", desc := "(LReorderium$Instruction;)I" } : Jvm.MethodName)) ∈ lw_tbl := lw_at lw_m6 85 rfl
theorem q1394 : (Jvm.Cond.instanceMethod ({ cls := "Reorderium$Plain", name := "doneBy", desc := "(LReorderium$Instruction;)I" } : Jvm.MethodName)) ∈ lw_all := lw_g (lw_at lw_m6 86 rfl) rfl
theorem q1395 : (Jvm.Cond.code ({ cls := "Reorderium$Plain", name := "doneBy", desc := "(LReorderium$Instruction;)I" } : Jvm.MethodName) prog_8_method_6_code (5 : Nat) (Option.some Jvm.ClassFile.FieldType.int)) ∈ lw_all := lw_g (lw_at lw_m6 87 rfl) rfl
theorem q1396 : (Jvm.Cond.methodLink "Reorderium$Plain" (109 : Nat) ({ cls := "Reorderium$Instruction", name := "isStore", desc := "()Z" } : Jvm.MethodName)) ∈ lw_all := lw_g (lw_at lw_m6 88 rfl) rfl
theorem q1397 : (Jvm.Cond.methodLink "Reorderium$Plain" (112 : Nat) ({ cls := "Reorderium$Instruction", name := "stored", desc := "(II)I" } : Jvm.MethodName)) ∈ lw_all := lw_g (lw_at lw_m6 89 rfl) rfl
theorem q1403 : (Jvm.Cond.methodLink "Reorderium$Plain" (116 : Nat) ({ cls := "Reorderium$Instruction", name := "hasResult", desc := "()Z" } : Jvm.MethodName)) ∈ lw_all := lw_g (lw_at lw_m6 95 rfl) rfl
theorem q1408 : (Jvm.Cond.methodLink "Reorderium$Plain" (119 : Nat) ({ cls := "Reorderium$Instruction", name := "reckon", desc := "(II)I" } : Jvm.MethodName)) ∈ lw_all := lw_g (lw_at lw_m6 100 rfl) rfl
theorem q1412 : (Jvm.Cond.methodLink "Reorderium$Plain" (122 : Nat) ({ cls := "Reorderium$Instruction", name := "isCondition", desc := "()Z" } : Jvm.MethodName)) ∈ lw_all := lw_g (lw_at lw_m6 104 rfl) rfl
theorem q1416 : (Jvm.Cond.methodLink "Reorderium$Plain" (125 : Nat) ({ cls := "Reorderium$Instruction", name := "isFulfilled", desc := "(II)Z" } : Jvm.MethodName)) ∈ lw_all := lw_g (lw_at lw_m6 108 rfl) rfl
theorem q1420 : (Jvm.Cond.methodLink "Reorderium$Plain" (129 : Nat) ({ cls := "Reorderium$Handling", name := "goBack", desc := "()I" } : Jvm.MethodName)) ∈ lw_all := lw_g (lw_at lw_m6 112 rfl) rfl
theorem q1509 : (Jvm.Cond.fieldLinkNest "Reorderium$Plain" (100 : Nat) "Reorderium$Instruction" "code" "I" "Reorderium") ∈ lw_tbl := lw_at lw_m6 201 rfl
theorem q1513 : (Jvm.Cond.fieldLinkNest "Reorderium$Plain" (106 : Nat) "Reorderium$Instruction" "d" "I" "Reorderium") ∈ lw_tbl := lw_at lw_m6 205 rfl
theorem q1516 : (Jvm.Cond.fieldLinkNest "Reorderium$Plain" (74 : Nat) "Reorderium$Instruction" "a" "I" "Reorderium") ∈ lw_tbl := lw_at lw_m6 208 rfl
theorem q1519 : (Jvm.Cond.fieldLinkNest "Reorderium$Plain" (77 : Nat) "Reorderium$Instruction" "b" "I" "Reorderium") ∈ lw_tbl := lw_at lw_m6 211 rfl
theorem q1522 : (Jvm.Cond.fieldLinkNest "Reorderium$Plain" (88 : Nat) "Reorderium$Instruction" "n" "I" "Reorderium") ∈ lw_tbl := lw_at lw_m6 214 rfl
theorem q2409 : (Jvm.Cond.selects "Reorderium$Plain" ({ cls := "java/lang/Object", name := "equals", desc := "(Ljava/lang/Object;)Z" } : Jvm.MethodName) ({ cls := "java/lang/Object", name := "equals", desc := "(Ljava/lang/Object;)Z" } : Jvm.MethodName)) ∈ lw_all := lw_g (lw_at lw_m10 141 rfl) rfl
theorem q3144 : (Jvm.Cond.castable "Reorderium$Plain" "java/lang/Object") ∈ lw_tbl := lw_at lw_m13 156 rfl
theorem in_X9 : ∀ w ∈ wsX90, w ∈ lw_all := lw_in wsX90 [979, 981, 983, 985, 987, 989] (by decide +kernel) (by decide +kernel)

theorem q1790 : (Jvm.Cond.declares ({ cls := "Reorderium$Aged", name := "isOlderThan", desc := "(LReorderium$Aged;)Z" } : Jvm.MethodName)) ∈ lw_tbl := lw_at lw_m8 2 rfl
theorem q1792 : (Jvm.Cond.instanceMethod ({ cls := "Reorderium$Aged", name := "isOlderThan", desc := "(LReorderium$Aged;)Z" } : Jvm.MethodName)) ∈ lw_all := lw_g (lw_at lw_m8 4 rfl) rfl
theorem q1793 : (Jvm.Cond.publicMethod ({ cls := "Reorderium$Aged", name := "isOlderThan", desc := "(LReorderium$Aged;)Z" } : Jvm.MethodName)) ∈ lw_tbl := lw_at lw_m8 5 rfl
theorem q1794 : (Jvm.Cond.code ({ cls := "Reorderium$Aged", name := "isOlderThan", desc := "(LReorderium$Aged;)Z" } : Jvm.MethodName) prog_2_method_2_code (2 : Nat) (Option.some Jvm.ClassFile.FieldType.boolean)) ∈ lw_all := lw_g (lw_at lw_m8 6 rfl) rfl
theorem q1795 : (Jvm.Cond.interfaceEntry "Reorderium$Aged" (1 : Nat)) ∈ lw_tbl := lw_at lw_m8 7 rfl
theorem q1796 : (Jvm.Cond.methodLink "Reorderium$Aged" (1 : Nat) ({ cls := "Reorderium$Aged", name := "age", desc := "()J" } : Jvm.MethodName)) ∈ lw_all := lw_g (lw_at lw_m8 8 rfl) rfl
theorem q1797 : (Jvm.Cond.interfaceMethod "Reorderium$Aged" "Reorderium$Aged" "age" "()J") ∈ lw_tbl := lw_at lw_m8 9 rfl
theorem q1798 : (Jvm.Cond.declares ({ cls := "Reorderium$Aged", name := "age", desc := "()J" } : Jvm.MethodName)) ∈ lw_tbl := lw_at lw_m8 10 rfl
theorem q3115 : (Jvm.Cond.initialized "Reorderium$Aged") ∈ lw_all := lw_g (lw_at lw_m13 127 rfl) rfl

theorem q110 : (Jvm.Cond.initialized "java/util/AbstractCollection") ∈ lw_all := lw_g (lw_at lw_m1 2 rfl) rfl
theorem q174 : (Jvm.Cond.instanceMethod ({ cls := "java/util/AbstractCollection", name := "<init>", desc := "()V" } : Jvm.MethodName)) ∈ lw_all := lw_g (lw_at lw_m1 66 rfl) rfl
theorem q175 : (Jvm.Cond.code ({ cls := "java/util/AbstractCollection", name := "<init>", desc := "()V" } : Jvm.MethodName) prog_38_method_1_code (1 : Nat) (Option.none : Option Jvm.ClassFile.FieldType)) ∈ lw_all := lw_g (lw_at lw_m1 67 rfl) rfl
theorem q176 : (Jvm.Cond.methodLink "java/util/AbstractCollection" (1 : Nat) ({ cls := "java/lang/Object", name := "<init>", desc := "()V" } : Jvm.MethodName)) ∈ lw_all := lw_g (lw_at lw_m1 68 rfl) rfl
theorem q1133 : (Jvm.Cond.declares ({ cls := "java/util/AbstractCollection", name := "size", desc := "()I" } : Jvm.MethodName)) ∈ lw_tbl := lw_at lw_m5 65 rfl
theorem q1883 : (Jvm.Cond.declares ({ cls := "java/util/AbstractCollection", name := "isEmpty", desc := "()Z" } : Jvm.MethodName)) ∈ lw_tbl := lw_at lw_m8 95 rfl
theorem q1885 : (Jvm.Cond.instanceMethod ({ cls := "java/util/AbstractCollection", name := "isEmpty", desc := "()Z" } : Jvm.MethodName)) ∈ lw_all := lw_g (lw_at lw_m8 97 rfl) rfl
theorem q1886 : (Jvm.Cond.code ({ cls := "java/util/AbstractCollection", name := "isEmpty", desc := "()Z" } : Jvm.MethodName) prog_38_method_4_code (1 : Nat) (Option.some Jvm.ClassFile.FieldType.boolean)) ∈ lw_all := lw_g (lw_at lw_m8 98 rfl) rfl
theorem q1887 : (Jvm.Cond.methodLink "java/util/AbstractCollection" (7 : Nat) ({ cls := "java/util/AbstractCollection", name := "size", desc := "()I" } : Jvm.MethodName)) ∈ lw_all := lw_g (lw_at lw_m8 99 rfl) rfl
theorem q3109 : (Jvm.Cond.sameMethod "java/util/AbstractCollection" "java/util/AbstractCollection" "size" "()I") ∈ lw_all := lw_g (lw_at lw_m13 121 rfl) rfl

theorem q111 : (Jvm.Cond.initialized "java/util/AbstractList") ∈ lw_all := lw_g (lw_at lw_m1 3 rfl) rfl
theorem q171 : (Jvm.Cond.instanceMethod ({ cls := "java/util/AbstractList", name := "<init>", desc := "()V" } : Jvm.MethodName)) ∈ lw_all := lw_g (lw_at lw_m1 63 rfl) rfl
theorem q172 : (Jvm.Cond.code ({ cls := "java/util/AbstractList", name := "<init>", desc := "()V" } : Jvm.MethodName) prog_39_method_1_code (1 : Nat) (Option.none : Option Jvm.ClassFile.FieldType)) ∈ lw_all := lw_g (lw_at lw_m1 64 rfl) rfl
theorem q173 : (Jvm.Cond.methodLink "java/util/AbstractList" (1 : Nat) ({ cls := "java/util/AbstractCollection", name := "<init>", desc := "()V" } : Jvm.MethodName)) ∈ lw_all := lw_g (lw_at lw_m1 65 rfl) rfl
theorem q183 : (Jvm.Cond.fieldLink "java/util/AbstractList" (7 : Nat) "java/util/AbstractList" "modCount" "I") ∈ lw_all := lw_g (lw_at lw_m1 75 rfl) rfl
theorem q196 : (Jvm.Cond.soleField "java/util/AbstractList" "modCount") ∈ lw_all := lw_g (lw_at lw_m1 88 rfl) rfl
theorem q1029 : (Jvm.Cond.declares ({ cls := "java/util/AbstractList", name := "listIterator", desc := "()Ljava/util/ListIterator;" } : Jvm.MethodName)) ∈ lw_tbl := lw_at lw_m4 201 rfl
theorem q1031 : (Jvm.Cond.instanceMethod ({ cls := "java/util/AbstractList", name := "listIterator", desc := "()Ljava/util/ListIterator;" } : Jvm.MethodName)) ∈ lw_all := lw_g (lw_at lw_m4 203 rfl) rfl
theorem q1032 : (Jvm.Cond.code ({ cls := "java/util/AbstractList", name := "listIterator", desc := "()Ljava/util/ListIterator;" } : Jvm.MethodName) prog_39_method_12_code (1 : Nat) (Option.some (Jvm.ClassFile.FieldType.object "java/util/ListIterator"))) ∈ lw_all := lw_g (lw_at lw_m4 204 rfl) rfl
theorem q1033 : (Jvm.Cond.methodLink "java/util/AbstractList" (47 : Nat) ({ cls := "java/util/AbstractList", name := "listIterator", desc := "(I)Ljava/util/ListIterator;" } : Jvm.MethodName)) ∈ lw_all := lw_g (lw_at lw_m4 205 rfl) rfl
theorem q1034 : (Jvm.Cond.instanceMethod ({ cls := "java/util/AbstractList", name := "listIterator", desc := "(I)Ljava/util/ListIterator;" } : Jvm.MethodName)) ∈ lw_all := lw_g (lw_at lw_m4 206 rfl) rfl
theorem q1035 : (Jvm.Cond.sameMethod "java/util/AbstractList" "java/util/AbstractList" "listIterator" "(I)Ljava/util/ListIterator;") ∈ lw_all := lw_g (lw_at lw_m4 207 rfl) rfl
theorem q1120 : (Jvm.Cond.declares ({ cls := "java/util/AbstractList", name := "listIterator", desc := "(I)Ljava/util/ListIterator;" } : Jvm.MethodName)) ∈ lw_tbl := lw_at lw_m5 52 rfl
theorem q1132 : (Jvm.Cond.sameMethod "java/util/AbstractList" "java/util/AbstractCollection" "size" "()I") ∈ lw_all := lw_g (lw_at lw_m5 64 rfl) rfl
theorem q1182 : (Jvm.Cond.declares ({ cls := "java/util/AbstractList", name := "get", desc := "(I)Ljava/lang/Object;" } : Jvm.MethodName)) ∈ lw_tbl := lw_at lw_m5 114 rfl
theorem q1183 : (Jvm.Cond.sameMethod "java/util/AbstractList" "java/util/AbstractList" "get" "(I)Ljava/lang/Object;") ∈ lw_all := lw_g (lw_at lw_m5 115 rfl) rfl
theorem q1676 : (Jvm.Cond.instanceMethod ({ cls := "java/util/AbstractList", name := "remove", desc := "(I)Ljava/lang/Object;" } : Jvm.MethodName)) ∈ lw_all := lw_g (lw_at lw_m7 128 rfl) rfl
theorem q1677 : (Jvm.Cond.sameMethod "java/util/AbstractList" "java/util/AbstractList" "remove" "(I)Ljava/lang/Object;") ∈ lw_all := lw_g (lw_at lw_m7 129 rfl) rfl
theorem q1693 : (Jvm.Cond.declares ({ cls := "java/util/AbstractList", name := "remove", desc := "(I)Ljava/lang/Object;" } : Jvm.MethodName)) ∈ lw_tbl := lw_at lw_m7 145 rfl

theorem q112 : (Jvm.Cond.initialized "java/util/ArrayList") ∈ lw_all := lw_g (lw_at lw_m1 4 rfl) rfl
theorem q166 : (Jvm.Cond.instantiable "java/util/ArrayList" (3 : Nat)) ∈ lw_all := lw_g (lw_at lw_m1 58 rfl) rfl
theorem q168 : (Jvm.Cond.instanceMethod ({ cls := "java/util/ArrayList", name := "<init>", desc := "()V" } : Jvm.MethodName)) ∈ lw_all := lw_g (lw_at lw_m1 60 rfl) rfl
theorem q169 : (Jvm.Cond.code ({ cls := "java/util/ArrayList", name := "<init>", desc := "()V" } : Jvm.MethodName) prog_45_method_2_code (1 : Nat) (Option.none : Option Jvm.ClassFile.FieldType)) ∈ lw_all := lw_g (lw_at lw_m1 61 rfl) rfl
theorem q170 : (Jvm.Cond.methodLink "java/util/ArrayList" (1 : Nat) ({ cls := "java/util/AbstractList", name := "<init>", desc := "()V" } : Jvm.MethodName)) ∈ lw_all := lw_g (lw_at lw_m1 62 rfl) rfl
theorem q177 : (Jvm.Cond.fieldLink "java/util/ArrayList" (39 : Nat) "java/util/ArrayList" "DEFAULTCAPACITY_EMPTY_ELEMENTDATA" "[Ljava/lang/Object;") ∈ lw_all := lw_g (lw_at lw_m1 69 rfl) rfl
theorem q178 : (Jvm.Cond.laysStatic "java/util/ArrayList" "DEFAULTCAPACITY_EMPTY_ELEMENTDATA" "[Ljava/lang/Object;") ∈ lw_tbl := lw_at lw_m1 70 rfl
theorem q179 : (Jvm.Cond.fieldLink "java/util/ArrayList" (9 : Nat) "java/util/ArrayList" "elementData" "[Ljava/lang/Object;") ∈ lw_all := lw_g (lw_at lw_m1 71 rfl) rfl
theorem q182 : (Jvm.Cond.fieldLink "java/util/ArrayList" (48 : Nat) "java/util/ArrayList" "size" "I") ∈ lw_all := lw_g (lw_at lw_m1 74 rfl) rfl
theorem q187 : (Jvm.Cond.sameField "java/util/ArrayList" "java/util/AbstractList" "modCount" "I") ∈ lw_all := lw_g (lw_at lw_m1 79 rfl) rfl
theorem q190 : (Jvm.Cond.fieldLink "java/util/ArrayList" (63 : Nat) "java/util/ArrayList" "modCount" "I") ∈ lw_all := lw_g (lw_at lw_m1 82 rfl) rfl
theorem q191 : (Jvm.Cond.lays "java/util/ArrayList" "java/util/ArrayList" "elementData" "[Ljava/lang/Object;") ∈ lw_all := lw_g (lw_at lw_m1 83 rfl) rfl
theorem q192 : (Jvm.Cond.soleField "java/util/ArrayList" "elementData") ∈ lw_all := lw_g (lw_at lw_m1 84 rfl) rfl
theorem q193 : (Jvm.Cond.lays "java/util/ArrayList" "java/util/ArrayList" "size" "I") ∈ lw_all := lw_g (lw_at lw_m1 85 rfl) rfl
theorem q194 : (Jvm.Cond.soleField "java/util/ArrayList" "size") ∈ lw_all := lw_g (lw_at lw_m1 86 rfl) rfl
theorem q195 : (Jvm.Cond.lays "java/util/ArrayList" "java/util/AbstractList" "modCount" "I") ∈ lw_all := lw_g (lw_at lw_m1 87 rfl) rfl
theorem q197 : (Jvm.Cond.superclass "java/util/ArrayList" "java/util/AbstractList") ∈ lw_all := lw_g (lw_at lw_m1 89 rfl) rfl
theorem q735 : (Jvm.Cond.selects "java/util/ArrayList" ({ cls := "java/lang/Object", name := "getClass", desc := "()Ljava/lang/Class;" } : Jvm.MethodName) ({ cls := "java/lang/Object", name := "getClass", desc := "()Ljava/lang/Class;" } : Jvm.MethodName)) ∈ lw_all := lw_g (lw_at lw_m3 147 rfl) rfl
theorem q884 : (Jvm.Cond.castable "java/util/ArrayList" "java/util/List") ∈ lw_tbl := lw_at lw_m4 56 rfl
theorem q885 : (Jvm.Cond.selects "java/util/ArrayList" ({ cls := "java/util/List", name := "size", desc := "()I" } : Jvm.MethodName) ({ cls := "java/util/ArrayList", name := "size", desc := "()I" } : Jvm.MethodName)) ∈ lw_all := lw_g (lw_at lw_m4 57 rfl) rfl
theorem q886 : (Jvm.Cond.unhidden "java/util/ArrayList" "size" "()I") ∈ lw_tbl := lw_at lw_m4 58 rfl
theorem q887 : (Jvm.Cond.instanceMethod ({ cls := "java/util/ArrayList", name := "size", desc := "()I" } : Jvm.MethodName)) ∈ lw_all := lw_g (lw_at lw_m4 59 rfl) rfl
theorem q888 : (Jvm.Cond.publicMethod ({ cls := "java/util/ArrayList", name := "size", desc := "()I" } : Jvm.MethodName)) ∈ lw_tbl := lw_at lw_m4 60 rfl
theorem q889 : (Jvm.Cond.code ({ cls := "java/util/ArrayList", name := "size", desc := "()I" } : Jvm.MethodName) prog_45_method_8_code (1 : Nat) (Option.some Jvm.ClassFile.FieldType.int)) ∈ lw_all := lw_g (lw_at lw_m4 61 rfl) rfl
theorem q996 : (Jvm.Cond.selects "java/util/ArrayList" ({ cls := "java/util/List", name := "iterator", desc := "()Ljava/util/Iterator;" } : Jvm.MethodName) ({ cls := "java/util/ArrayList", name := "iterator", desc := "()Ljava/util/Iterator;" } : Jvm.MethodName)) ∈ lw_all := lw_g (lw_at lw_m4 168 rfl) rfl
theorem q997 : (Jvm.Cond.unhidden "java/util/ArrayList" "iterator" "()Ljava/util/Iterator;") ∈ lw_tbl := lw_at lw_m4 169 rfl
theorem q998 : (Jvm.Cond.instanceMethod ({ cls := "java/util/ArrayList", name := "iterator", desc := "()Ljava/util/Iterator;" } : Jvm.MethodName)) ∈ lw_all := lw_g (lw_at lw_m4 170 rfl) rfl
theorem q999 : (Jvm.Cond.publicMethod ({ cls := "java/util/ArrayList", name := "iterator", desc := "()Ljava/util/Iterator;" } : Jvm.MethodName)) ∈ lw_tbl := lw_at lw_m4 171 rfl
theorem q1000 : (Jvm.Cond.code ({ cls := "java/util/ArrayList", name := "iterator", desc := "()Ljava/util/Iterator;" } : Jvm.MethodName) prog_45_method_55_code (1 : Nat) (Option.some (Jvm.ClassFile.FieldType.object "java/util/Iterator"))) ∈ lw_all := lw_g (lw_at lw_m4 172 rfl) rfl
theorem q1001 : (Jvm.Cond.classLink "java/util/ArrayList" (267 : Nat) "java/util/ArrayList$Itr") ∈ lw_all := lw_g (lw_at lw_m4 173 rfl) rfl
theorem q1003 : (Jvm.Cond.methodLink "java/util/ArrayList" (269 : Nat) ({ cls := "java/util/ArrayList$Itr", name := "<init>", desc := "(Ljava/util/ArrayList;)V" } : Jvm.MethodName)) ∈ lw_all := lw_g (lw_at lw_m4 175 rfl) rfl
theorem q1036 : (Jvm.Cond.selects "java/util/ArrayList" ({ cls := "java/util/AbstractList", name := "listIterator", desc := "(I)Ljava/util/ListIterator;" } : Jvm.MethodName) ({ cls := "java/util/ArrayList", name := "listIterator", desc := "(I)Ljava/util/ListIterator;" } : Jvm.MethodName)) ∈ lw_all := lw_g (lw_at lw_m4 208 rfl) rfl
theorem q1037 : (Jvm.Cond.instanceMethod ({ cls := "java/util/ArrayList", name := "listIterator", desc := "(I)Ljava/util/ListIterator;" } : Jvm.MethodName)) ∈ lw_all := lw_g (lw_at lw_m4 209 rfl) rfl
theorem q1038 : (Jvm.Cond.code ({ cls := "java/util/ArrayList", name := "listIterator", desc := "(I)Ljava/util/ListIterator;" } : Jvm.MethodName) prog_45_method_53_code (2 : Nat) (Option.some (Jvm.ClassFile.FieldType.object "java/util/ListIterator"))) ∈ lw_all := lw_g (lw_at lw_m4 210 rfl) rfl
theorem q1039 : (Jvm.Cond.methodLink "java/util/ArrayList" (135 : Nat) ({ cls := "java/util/ArrayList", name := "rangeCheckForAdd", desc := "(I)V" } : Jvm.MethodName)) ∈ lw_all := lw_g (lw_at lw_m4 211 rfl) rfl
theorem q1040 : (Jvm.Cond.privateMethod ({ cls := "java/util/ArrayList", name := "rangeCheckForAdd", desc := "(I)V" } : Jvm.MethodName)) ∈ lw_tbl := lw_at lw_m4 212 rfl
theorem q1041 : (Jvm.Cond.instanceMethod ({ cls := "java/util/ArrayList", name := "rangeCheckForAdd", desc := "(I)V" } : Jvm.MethodName)) ∈ lw_all := lw_g (lw_at lw_m4 213 rfl) rfl
theorem q1042 : (Jvm.Cond.code ({ cls := "java/util/ArrayList", name := "rangeCheckForAdd", desc := "(I)V" } : Jvm.MethodName) prog_45_method_45_code (2 : Nat) (Option.none : Option Jvm.ClassFile.FieldType)) ∈ lw_all := lw_g (lw_at lw_m4 214 rfl) rfl
theorem q1043 : (Jvm.Cond.classLink "java/util/ArrayList" (187 : Nat) "java/lang/IndexOutOfBoundsException") ∈ lw_all := lw_g (lw_at lw_m4 215 rfl) rfl
theorem q1044 : (Jvm.Cond.methodLink "java/util/ArrayList" (198 : Nat) ({ cls := "java/util/ArrayList", name := "outOfBoundsMsg", desc := "(I)Ljava/lang/String;" } : Jvm.MethodName)) ∈ lw_all := lw_g (lw_at lw_m4 216 rfl) rfl
theorem q1045 : (Jvm.Cond.privateMethod ({ cls := "java/util/ArrayList", name := "outOfBoundsMsg", desc := "(I)Ljava/lang/String;" } : Jvm.MethodName)) ∈ lw_tbl := lw_at lw_m4 217 rfl
theorem q1046 : (Jvm.Cond.instanceMethod ({ cls := "java/util/ArrayList", name := "outOfBoundsMsg", desc := "(I)Ljava/lang/String;" } : Jvm.MethodName)) ∈ lw_all := lw_g (lw_at lw_m4 218 rfl) rfl
theorem q1047 : (Jvm.Cond.code ({ cls := "java/util/ArrayList", name := "outOfBoundsMsg", desc := "(I)Ljava/lang/String;" } : Jvm.MethodName) prog_45_method_46_code (2 : Nat) (Option.some (Jvm.ClassFile.FieldType.object "java/lang/String"))) ∈ lw_all := lw_g (lw_at lw_m4 219 rfl) rfl
theorem q1048 : (Jvm.Cond.classLink "java/util/ArrayList" (20 : Nat) "java/lang/StringBuilder") ∈ lw_all := lw_g (lw_at lw_m4 220 rfl) rfl
theorem q1049 : (Jvm.Cond.methodLink "java/util/ArrayList" (22 : Nat) ({ cls := "java/lang/StringBuilder", name := "<init>", desc := "()V" } : Jvm.MethodName)) ∈ lw_all := lw_g (lw_at lw_m4 221 rfl) rfl
theorem q1050 : (Jvm.Cond.stringRef "java/util/ArrayList" (201 : Nat) "Index: ") ∈ lw_tbl := lw_at lw_m4 222 rfl
theorem q1051 : (Jvm.Cond.methodLink "java/util/ArrayList" (25 : Nat) ({ cls := "java/lang/StringBuilder", name := "append", desc := "(Ljava/lang/String;)Ljava/lang/StringBuilder;" } : Jvm.MethodName)) ∈ lw_all := lw_g (lw_at lw_m4 223 rfl) rfl
theorem q1052 : (Jvm.Cond.methodLink "java/util/ArrayList" (29 : Nat) ({ cls := "java/lang/StringBuilder", name := "append", desc := "(I)Ljava/lang/StringBuilder;" } : Jvm.MethodName)) ∈ lw_all := lw_g (lw_at lw_m4 224 rfl) rfl
theorem q1053 : (Jvm.Cond.stringRef "java/util/ArrayList" (203 : Nat) ", Size: ") ∈ lw_tbl := lw_at lw_m4 225 rfl
theorem q1054 : (Jvm.Cond.methodLink "java/util/ArrayList" (32 : Nat) ({ cls := "java/lang/StringBuilder", name := "toString", desc := "()Ljava/lang/String;" } : Jvm.MethodName)) ∈ lw_all := lw_g (lw_at lw_m4 226 rfl) rfl
theorem q1055 : (Jvm.Cond.methodLink "java/util/ArrayList" (193 : Nat) ({ cls := "java/lang/IndexOutOfBoundsException", name := "<init>", desc := "(Ljava/lang/String;)V" } : Jvm.MethodName)) ∈ lw_all := lw_g (lw_at lw_m4 227 rfl) rfl
theorem q1056 : (Jvm.Cond.classLink "java/util/ArrayList" (262 : Nat) "java/util/ArrayList$ListItr") ∈ lw_all := lw_g (lw_at lw_m4 228 rfl) rfl
theorem q1058 : (Jvm.Cond.methodLink "java/util/ArrayList" (264 : Nat) ({ cls := "java/util/ArrayList$ListItr", name := "<init>", desc := "(Ljava/util/ArrayList;I)V" } : Jvm.MethodName)) ∈ lw_all := lw_g (lw_at lw_m4 230 rfl) rfl
theorem q1134 : (Jvm.Cond.selects "java/util/ArrayList" ({ cls := "java/util/AbstractList", name := "size", desc := "()I" } : Jvm.MethodName) ({ cls := "java/util/ArrayList", name := "size", desc := "()I" } : Jvm.MethodName)) ∈ lw_all := lw_g (lw_at lw_m5 66 rfl) rfl
theorem q1184 : (Jvm.Cond.selects "java/util/ArrayList" ({ cls := "java/util/AbstractList", name := "get", desc := "(I)Ljava/lang/Object;" } : Jvm.MethodName) ({ cls := "java/util/ArrayList", name := "get", desc := "(I)Ljava/lang/Object;" } : Jvm.MethodName)) ∈ lw_all := lw_g (lw_at lw_m5 116 rfl) rfl
theorem q1185 : (Jvm.Cond.instanceMethod ({ cls := "java/util/ArrayList", name := "get", desc := "(I)Ljava/lang/Object;" } : Jvm.MethodName)) ∈ lw_all := lw_g (lw_at lw_m5 117 rfl) rfl
theorem q1186 : (Jvm.Cond.code ({ cls := "java/util/ArrayList", name := "get", desc := "(I)Ljava/lang/Object;" } : Jvm.MethodName) prog_45_method_20_code (2 : Nat) (Option.some (Jvm.ClassFile.FieldType.object "java/lang/Object"))) ∈ lw_all := lw_g (lw_at lw_m5 118 rfl) rfl
theorem q1187 : (Jvm.Cond.methodLink "java/util/ArrayList" (118 : Nat) ({ cls := "java/util/Objects", name := "checkIndex", desc := "(II)I" } : Jvm.MethodName)) ∈ lw_all := lw_g (lw_at lw_m5 119 rfl) rfl
theorem q1193 : (Jvm.Cond.methodLink "java/util/ArrayList" (123 : Nat) ({ cls := "java/util/ArrayList", name := "elementData", desc := "(I)Ljava/lang/Object;" } : Jvm.MethodName)) ∈ lw_all := lw_g (lw_at lw_m5 125 rfl) rfl
theorem q1194 : (Jvm.Cond.instanceMethod ({ cls := "java/util/ArrayList", name := "elementData", desc := "(I)Ljava/lang/Object;" } : Jvm.MethodName)) ∈ lw_all := lw_g (lw_at lw_m5 126 rfl) rfl
theorem q1195 : (Jvm.Cond.selects "java/util/ArrayList" ({ cls := "java/util/ArrayList", name := "elementData", desc := "(I)Ljava/lang/Object;" } : Jvm.MethodName) ({ cls := "java/util/ArrayList", name := "elementData", desc := "(I)Ljava/lang/Object;" } : Jvm.MethodName)) ∈ lw_all := lw_g (lw_at lw_m5 127 rfl) rfl
theorem q1196 : (Jvm.Cond.code ({ cls := "java/util/ArrayList", name := "elementData", desc := "(I)Ljava/lang/Object;" } : Jvm.MethodName) prog_45_method_18_code (2 : Nat) (Option.some (Jvm.ClassFile.FieldType.object "java/lang/Object"))) ∈ lw_all := lw_g (lw_at lw_m5 128 rfl) rfl
theorem q1350 : (Jvm.Cond.selects "java/util/ArrayList" ({ cls := "java/util/List", name := "get", desc := "(I)Ljava/lang/Object;" } : Jvm.MethodName) ({ cls := "java/util/ArrayList", name := "get", desc := "(I)Ljava/lang/Object;" } : Jvm.MethodName)) ∈ lw_all := lw_g (lw_at lw_m6 42 rfl) rfl
theorem q1351 : (Jvm.Cond.unhidden "java/util/ArrayList" "get" "(I)Ljava/lang/Object;") ∈ lw_tbl := lw_at lw_m6 43 rfl
theorem q1352 : (Jvm.Cond.publicMethod ({ cls := "java/util/ArrayList", name := "get", desc := "(I)Ljava/lang/Object;" } : Jvm.MethodName)) ∈ lw_tbl := lw_at lw_m6 44 rfl
theorem q1539 : (Jvm.Cond.selects "java/util/ArrayList" ({ cls := "java/util/List", name := "add", desc := "(Ljava/lang/Object;)Z" } : Jvm.MethodName) ({ cls := "java/util/ArrayList", name := "add", desc := "(Ljava/lang/Object;)Z" } : Jvm.MethodName)) ∈ lw_all := lw_g (lw_at lw_m6 231 rfl) rfl
theorem q1540 : (Jvm.Cond.unhidden "java/util/ArrayList" "add" "(Ljava/lang/Object;)Z") ∈ lw_tbl := lw_at lw_m6 232 rfl
theorem q1541 : (Jvm.Cond.instanceMethod ({ cls := "java/util/ArrayList", name := "add", desc := "(Ljava/lang/Object;)Z" } : Jvm.MethodName)) ∈ lw_all := lw_g (lw_at lw_m6 233 rfl) rfl
theorem q1542 : (Jvm.Cond.publicMethod ({ cls := "java/util/ArrayList", name := "add", desc := "(Ljava/lang/Object;)Z" } : Jvm.MethodName)) ∈ lw_tbl := lw_at lw_m6 234 rfl
theorem q1543 : (Jvm.Cond.code ({ cls := "java/util/ArrayList", name := "add", desc := "(Ljava/lang/Object;)Z" } : Jvm.MethodName) prog_45_method_25_code (2 : Nat) (Option.some Jvm.ClassFile.FieldType.boolean)) ∈ lw_all := lw_g (lw_at lw_m6 235 rfl) rfl
theorem q1544 : (Jvm.Cond.methodLink "java/util/ArrayList" (131 : Nat) ({ cls := "java/util/ArrayList", name := "add", desc := "(Ljava/lang/Object;[Ljava/lang/Object;I)V" } : Jvm.MethodName)) ∈ lw_all := lw_g (lw_at lw_m6 236 rfl) rfl
theorem q1545 : (Jvm.Cond.privateMethod ({ cls := "java/util/ArrayList", name := "add", desc := "(Ljava/lang/Object;[Ljava/lang/Object;I)V" } : Jvm.MethodName)) ∈ lw_tbl := lw_at lw_m6 237 rfl
theorem q1546 : (Jvm.Cond.instanceMethod ({ cls := "java/util/ArrayList", name := "add", desc := "(Ljava/lang/Object;[Ljava/lang/Object;I)V" } : Jvm.MethodName)) ∈ lw_all := lw_g (lw_at lw_m6 238 rfl) rfl
theorem q1547 : (Jvm.Cond.code ({ cls := "java/util/ArrayList", name := "add", desc := "(Ljava/lang/Object;[Ljava/lang/Object;I)V" } : Jvm.MethodName) prog_45_method_24_code (4 : Nat) (Option.none : Option Jvm.ClassFile.FieldType)) ∈ lw_all := lw_g (lw_at lw_m6 239 rfl) rfl
theorem q1548 : (Jvm.Cond.methodLink "java/util/ArrayList" (129 : Nat) ({ cls := "java/util/ArrayList", name := "grow", desc := "()[Ljava/lang/Object;" } : Jvm.MethodName)) ∈ lw_all := lw_g (lw_at lw_m7 0 rfl) rfl
theorem q1549 : (Jvm.Cond.privateMethod ({ cls := "java/util/ArrayList", name := "grow", desc := "()[Ljava/lang/Object;" } : Jvm.MethodName)) ∈ lw_tbl := lw_at lw_m7 1 rfl
theorem q1550 : (Jvm.Cond.instanceMethod ({ cls := "java/util/ArrayList", name := "grow", desc := "()[Ljava/lang/Object;" } : Jvm.MethodName)) ∈ lw_all := lw_g (lw_at lw_m7 2 rfl) rfl
theorem q1551 : (Jvm.Cond.code ({ cls := "java/util/ArrayList", name := "grow", desc := "()[Ljava/lang/Object;" } : Jvm.MethodName) prog_45_method_7_code (1 : Nat) (Option.some (Jvm.ClassFile.FieldType.array (Jvm.ClassFile.FieldType.object "java/lang/Object")))) ∈ lw_all := lw_g (lw_at lw_m7 3 rfl) rfl
theorem q1552 : (Jvm.Cond.methodLink "java/util/ArrayList" (69 : Nat) ({ cls := "java/util/ArrayList", name := "grow", desc := "(I)[Ljava/lang/Object;" } : Jvm.MethodName)) ∈ lw_all := lw_g (lw_at lw_m7 4 rfl) rfl
theorem q1553 : (Jvm.Cond.privateMethod ({ cls := "java/util/ArrayList", name := "grow", desc := "(I)[Ljava/lang/Object;" } : Jvm.MethodName)) ∈ lw_tbl := lw_at lw_m7 5 rfl
theorem q1554 : (Jvm.Cond.instanceMethod ({ cls := "java/util/ArrayList", name := "grow", desc := "(I)[Ljava/lang/Object;" } : Jvm.MethodName)) ∈ lw_all := lw_g (lw_at lw_m7 6 rfl) rfl
theorem q1555 : (Jvm.Cond.code ({ cls := "java/util/ArrayList", name := "grow", desc := "(I)[Ljava/lang/Object;" } : Jvm.MethodName) prog_45_method_6_code (4 : Nat) (Option.some (Jvm.ClassFile.FieldType.array (Jvm.ClassFile.FieldType.object "java/lang/Object")))) ∈ lw_all := lw_g (lw_at lw_m7 7 rfl) rfl
theorem q1556 : (Jvm.Cond.methodLink "java/util/ArrayList" (73 : Nat) ({ cls := "jdk/internal/util/ArraysSupport", name := "newLength", desc := "(III)I" } : Jvm.MethodName)) ∈ lw_all := lw_g (lw_at lw_m7 8 rfl) rfl
theorem q1557 : (Jvm.Cond.methodLink "java/util/ArrayList" (66 : Nat) ({ cls := "java/util/Arrays", name := "copyOf", desc := "([Ljava/lang/Object;I)[Ljava/lang/Object;" } : Jvm.MethodName)) ∈ lw_all := lw_g (lw_at lw_m7 9 rfl) rfl
theorem q1558 : (Jvm.Cond.methodLink "java/util/ArrayList" (79 : Nat) ({ cls := "java/lang/Math", name := "max", desc := "(II)I" } : Jvm.MethodName)) ∈ lw_all := lw_g (lw_at lw_m7 10 rfl) rfl
theorem q1559 : (Jvm.Cond.classLink "java/util/ArrayList" (7 : Nat) "java/lang/Object") ∈ lw_all := lw_g (lw_at lw_m7 11 rfl) rfl
theorem q1678 : (Jvm.Cond.selects "java/util/ArrayList" ({ cls := "java/util/AbstractList", name := "remove", desc := "(I)Ljava/lang/Object;" } : Jvm.MethodName) ({ cls := "java/util/ArrayList", name := "remove", desc := "(I)Ljava/lang/Object;" } : Jvm.MethodName)) ∈ lw_all := lw_g (lw_at lw_m7 130 rfl) rfl
theorem q1679 : (Jvm.Cond.instanceMethod ({ cls := "java/util/ArrayList", name := "remove", desc := "(I)Ljava/lang/Object;" } : Jvm.MethodName)) ∈ lw_all := lw_g (lw_at lw_m7 131 rfl) rfl
theorem q1680 : (Jvm.Cond.code ({ cls := "java/util/ArrayList", name := "remove", desc := "(I)Ljava/lang/Object;" } : Jvm.MethodName) prog_45_method_29_code (4 : Nat) (Option.some (Jvm.ClassFile.FieldType.object "java/lang/Object"))) ∈ lw_all := lw_g (lw_at lw_m7 132 rfl) rfl
theorem q1681 : (Jvm.Cond.methodLink "java/util/ArrayList" (144 : Nat) ({ cls := "java/util/ArrayList", name := "fastRemove", desc := "([Ljava/lang/Object;I)V" } : Jvm.MethodName)) ∈ lw_all := lw_g (lw_at lw_m7 133 rfl) rfl
theorem q1682 : (Jvm.Cond.privateMethod ({ cls := "java/util/ArrayList", name := "fastRemove", desc := "([Ljava/lang/Object;I)V" } : Jvm.MethodName)) ∈ lw_tbl := lw_at lw_m7 134 rfl
theorem q1683 : (Jvm.Cond.instanceMethod ({ cls := "java/util/ArrayList", name := "fastRemove", desc := "([Ljava/lang/Object;I)V" } : Jvm.MethodName)) ∈ lw_all := lw_g (lw_at lw_m7 135 rfl) rfl
theorem q1684 : (Jvm.Cond.code ({ cls := "java/util/ArrayList", name := "fastRemove", desc := "([Ljava/lang/Object;I)V" } : Jvm.MethodName) prog_45_method_39_code (4 : Nat) (Option.none : Option Jvm.ClassFile.FieldType)) ∈ lw_all := lw_g (lw_at lw_m7 136 rfl) rfl
theorem q1685 : (Jvm.Cond.methodLink "java/util/ArrayList" (112 : Nat) ({ cls := "java/lang/System", name := "arraycopy", desc := "(Ljava/lang/Object;ILjava/lang/Object;II)V" } : Jvm.MethodName)) ∈ lw_all := lw_g (lw_at lw_m7 137 rfl) rfl
theorem q3108 : (Jvm.Cond.selects "java/util/ArrayList" ({ cls := "java/util/ArrayList", name := "remove", desc := "(I)Ljava/lang/Object;" } : Jvm.MethodName) ({ cls := "java/util/ArrayList", name := "remove", desc := "(I)Ljava/lang/Object;" } : Jvm.MethodName)) ∈ lw_all := lw_g (lw_at lw_m13 120 rfl) rfl
theorem q3111 : (Jvm.Cond.selects "java/util/ArrayList" ({ cls := "java/util/AbstractCollection", name := "size", desc := "()I" } : Jvm.MethodName) ({ cls := "java/util/ArrayList", name := "size", desc := "()I" } : Jvm.MethodName)) ∈ lw_all := lw_g (lw_at lw_m13 123 rfl) rfl
theorem q3118 : (Jvm.Cond.castable "java/util/ArrayList" "java/lang/Object") ∈ lw_tbl := lw_at lw_m13 130 rfl
theorem in_J2 : ∀ w ∈ wsJ20, w ∈ lw_all := lw_in wsJ20 [195, 191, 193] (by decide +kernel) (by decide +kernel)

theorem q114 : (Jvm.Cond.initialized "java/util/BitSet") ∈ lw_all := lw_g (lw_at lw_m1 6 rfl) rfl
theorem q224 : (Jvm.Cond.instantiable "java/util/BitSet" (3 : Nat)) ∈ lw_all := lw_g (lw_at lw_m1 116 rfl) rfl
theorem q226 : (Jvm.Cond.instanceMethod ({ cls := "java/util/BitSet", name := "<init>", desc := "()V" } : Jvm.MethodName)) ∈ lw_all := lw_g (lw_at lw_m1 118 rfl) rfl
theorem q227 : (Jvm.Cond.code ({ cls := "java/util/BitSet", name := "<init>", desc := "()V" } : Jvm.MethodName) prog_49_method_4_code (1 : Nat) (Option.none : Option Jvm.ClassFile.FieldType)) ∈ lw_all := lw_g (lw_at lw_m1 119 rfl) rfl
theorem q228 : (Jvm.Cond.methodLink "java/util/BitSet" (21 : Nat) ({ cls := "java/lang/Object", name := "<init>", desc := "()V" } : Jvm.MethodName)) ∈ lw_all := lw_g (lw_at lw_m1 120 rfl) rfl
theorem q229 : (Jvm.Cond.methodLink "java/util/BitSet" (27 : Nat) ({ cls := "java/util/BitSet", name := "initWords", desc := "(I)V" } : Jvm.MethodName)) ∈ lw_all := lw_g (lw_at lw_m1 121 rfl) rfl
theorem q230 : (Jvm.Cond.privateMethod ({ cls := "java/util/BitSet", name := "initWords", desc := "(I)V" } : Jvm.MethodName)) ∈ lw_tbl := lw_at lw_m1 122 rfl
theorem q231 : (Jvm.Cond.instanceMethod ({ cls := "java/util/BitSet", name := "initWords", desc := "(I)V" } : Jvm.MethodName)) ∈ lw_all := lw_g (lw_at lw_m1 123 rfl) rfl
theorem q232 : (Jvm.Cond.code ({ cls := "java/util/BitSet", name := "initWords", desc := "(I)V" } : Jvm.MethodName) prog_49_method_6_code (2 : Nat) (Option.none : Option Jvm.ClassFile.FieldType)) ∈ lw_all := lw_g (lw_at lw_m1 124 rfl) rfl
theorem q233 : (Jvm.Cond.methodLink "java/util/BitSet" (52 : Nat) ({ cls := "java/util/BitSet", name := "wordIndex", desc := "(I)I" } : Jvm.MethodName)) ∈ lw_all := lw_g (lw_at lw_m1 125 rfl) rfl
theorem q234 : (Jvm.Cond.static ({ cls := "java/util/BitSet", name := "wordIndex", desc := "(I)I" } : Jvm.MethodName)) ∈ lw_all := lw_g (lw_at lw_m1 126 rfl) rfl
theorem q235 : (Jvm.Cond.code ({ cls := "java/util/BitSet", name := "wordIndex", desc := "(I)I" } : Jvm.MethodName) prog_49_method_1_code (1 : Nat) (Option.some Jvm.ClassFile.FieldType.int)) ∈ lw_all := lw_g (lw_at lw_m1 127 rfl) rfl
theorem q236 : (Jvm.Cond.fieldLink "java/util/BitSet" (11 : Nat) "java/util/BitSet" "words" "[J") ∈ lw_all := lw_g (lw_at lw_m1 128 rfl) rfl
theorem q237 : (Jvm.Cond.fieldLink "java/util/BitSet" (7 : Nat) "java/util/BitSet" "wordsInUse" "I") ∈ lw_all := lw_g (lw_at lw_m1 129 rfl) rfl
theorem q238 : (Jvm.Cond.fieldLink "java/util/BitSet" (24 : Nat) "java/util/BitSet" "sizeIsSticky" "Z") ∈ lw_all := lw_g (lw_at lw_m1 130 rfl) rfl
theorem q239 : (Jvm.Cond.lays "java/util/BitSet" "java/util/BitSet" "words" "[J") ∈ lw_all := lw_g (lw_at lw_m1 131 rfl) rfl
theorem q240 : (Jvm.Cond.soleField "java/util/BitSet" "words") ∈ lw_all := lw_g (lw_at lw_m1 132 rfl) rfl
theorem q241 : (Jvm.Cond.lays "java/util/BitSet" "java/util/BitSet" "wordsInUse" "I") ∈ lw_all := lw_g (lw_at lw_m1 133 rfl) rfl
theorem q242 : (Jvm.Cond.soleField "java/util/BitSet" "wordsInUse") ∈ lw_all := lw_g (lw_at lw_m1 134 rfl) rfl
theorem q243 : (Jvm.Cond.lays "java/util/BitSet" "java/util/BitSet" "sizeIsSticky" "Z") ∈ lw_all := lw_g (lw_at lw_m1 135 rfl) rfl
theorem q244 : (Jvm.Cond.soleField "java/util/BitSet" "sizeIsSticky") ∈ lw_all := lw_g (lw_at lw_m1 136 rfl) rfl
theorem q245 : (Jvm.Cond.superclass "java/util/BitSet" "java/lang/Object") ∈ lw_all := lw_g (lw_at lw_m1 137 rfl) rfl
theorem q301 : (Jvm.Cond.instanceMethod ({ cls := "java/util/BitSet", name := "set", desc := "(I)V" } : Jvm.MethodName)) ∈ lw_all := lw_g (lw_at lw_m1 193 rfl) rfl
theorem q302 : (Jvm.Cond.selects "java/util/BitSet" ({ cls := "java/util/BitSet", name := "set", desc := "(I)V" } : Jvm.MethodName) ({ cls := "java/util/BitSet", name := "set", desc := "(I)V" } : Jvm.MethodName)) ∈ lw_all := lw_g (lw_at lw_m1 194 rfl) rfl
theorem q303 : (Jvm.Cond.code ({ cls := "java/util/BitSet", name := "set", desc := "(I)V" } : Jvm.MethodName) prog_49_method_19_code (3 : Nat) (Option.none : Option Jvm.ClassFile.FieldType)) ∈ lw_all := lw_g (lw_at lw_m1 195 rfl) rfl
theorem q304 : (Jvm.Cond.classLink "java/util/BitSet" (142 : Nat) "java/lang/IndexOutOfBoundsException") ∈ lw_all := lw_g (lw_at lw_m1 196 rfl) rfl
theorem q348 : (Jvm.Cond.classLink "java/util/BitSet" (33 : Nat) "java/lang/StringBuilder") ∈ lw_all := lw_g (lw_at lw_m2 0 rfl) rfl
theorem q350 : (Jvm.Cond.methodLink "java/util/BitSet" (35 : Nat) ({ cls := "java/lang/StringBuilder", name := "<init>", desc := "()V" } : Jvm.MethodName)) ∈ lw_all := lw_g (lw_at lw_m2 2 rfl) rfl
theorem q379 : (Jvm.Cond.stringRef "java/util/BitSet" (153 : Nat) "bitIndex < 0: ") ∈ lw_tbl := lw_at lw_m2 31 rfl
theorem q380 : (Jvm.Cond.methodLink "java/util/BitSet" (38 : Nat) ({ cls := "java/lang/StringBuilder", name := "append", desc := "(Ljava/lang/String;)Ljava/lang/StringBuilder;" } : Jvm.MethodName)) ∈ lw_all := lw_g (lw_at lw_m2 32 rfl) rfl
theorem q492 : (Jvm.Cond.methodLink "java/util/BitSet" (42 : Nat) ({ cls := "java/lang/StringBuilder", name := "append", desc := "(I)Ljava/lang/StringBuilder;" } : Jvm.MethodName)) ∈ lw_all := lw_g (lw_at lw_m2 144 rfl) rfl
theorem q517 : (Jvm.Cond.methodLink "java/util/BitSet" (45 : Nat) ({ cls := "java/lang/StringBuilder", name := "toString", desc := "()Ljava/lang/String;" } : Jvm.MethodName)) ∈ lw_all := lw_g (lw_at lw_m2 169 rfl) rfl
theorem q617 : (Jvm.Cond.methodLink "java/util/BitSet" (146 : Nat) ({ cls := "java/lang/IndexOutOfBoundsException", name := "<init>", desc := "(Ljava/lang/String;)V" } : Jvm.MethodName)) ∈ lw_all := lw_g (lw_at lw_m3 29 rfl) rfl
theorem q623 : (Jvm.Cond.methodLink "java/util/BitSet" (155 : Nat) ({ cls := "java/util/BitSet", name := "expandTo", desc := "(I)V" } : Jvm.MethodName)) ∈ lw_all := lw_g (lw_at lw_m3 35 rfl) rfl
theorem q624 : (Jvm.Cond.privateMethod ({ cls := "java/util/BitSet", name := "expandTo", desc := "(I)V" } : Jvm.MethodName)) ∈ lw_tbl := lw_at lw_m3 36 rfl
theorem q625 : (Jvm.Cond.instanceMethod ({ cls := "java/util/BitSet", name := "expandTo", desc := "(I)V" } : Jvm.MethodName)) ∈ lw_all := lw_g (lw_at lw_m3 37 rfl) rfl
theorem q626 : (Jvm.Cond.code ({ cls := "java/util/BitSet", name := "expandTo", desc := "(I)V" } : Jvm.MethodName) prog_49_method_15_code (3 : Nat) (Option.none : Option Jvm.ClassFile.FieldType)) ∈ lw_all := lw_g (lw_at lw_m3 38 rfl) rfl
theorem q627 : (Jvm.Cond.methodLink "java/util/BitSet" (139 : Nat) ({ cls := "java/util/BitSet", name := "ensureCapacity", desc := "(I)V" } : Jvm.MethodName)) ∈ lw_all := lw_g (lw_at lw_m3 39 rfl) rfl
theorem q628 : (Jvm.Cond.privateMethod ({ cls := "java/util/BitSet", name := "ensureCapacity", desc := "(I)V" } : Jvm.MethodName)) ∈ lw_tbl := lw_at lw_m3 40 rfl
theorem q629 : (Jvm.Cond.instanceMethod ({ cls := "java/util/BitSet", name := "ensureCapacity", desc := "(I)V" } : Jvm.MethodName)) ∈ lw_all := lw_g (lw_at lw_m3 41 rfl) rfl
theorem q630 : (Jvm.Cond.code ({ cls := "java/util/BitSet", name := "ensureCapacity", desc := "(I)V" } : Jvm.MethodName) prog_49_method_14_code (3 : Nat) (Option.none : Option Jvm.ClassFile.FieldType)) ∈ lw_all := lw_g (lw_at lw_m3 42 rfl) rfl
theorem q631 : (Jvm.Cond.methodLink "java/util/BitSet" (133 : Nat) ({ cls := "java/lang/Math", name := "max", desc := "(II)I" } : Jvm.MethodName)) ∈ lw_all := lw_g (lw_at lw_m3 43 rfl) rfl
theorem q632 : (Jvm.Cond.methodLink "java/util/BitSet" (59 : Nat) ({ cls := "java/util/Arrays", name := "copyOf", desc := "([JI)[J" } : Jvm.MethodName)) ∈ lw_all := lw_g (lw_at lw_m3 44 rfl) rfl
theorem q640 : (Jvm.Cond.methodLink "java/util/BitSet" (56 : Nat) ({ cls := "java/util/BitSet", name := "checkInvariants", desc := "()V" } : Jvm.MethodName)) ∈ lw_all := lw_g (lw_at lw_m3 52 rfl) rfl
theorem q641 : (Jvm.Cond.privateMethod ({ cls := "java/util/BitSet", name := "checkInvariants", desc := "()V" } : Jvm.MethodName)) ∈ lw_tbl := lw_at lw_m3 53 rfl
theorem q642 : (Jvm.Cond.instanceMethod ({ cls := "java/util/BitSet", name := "checkInvariants", desc := "()V" } : Jvm.MethodName)) ∈ lw_all := lw_g (lw_at lw_m3 54 rfl) rfl
theorem q643 : (Jvm.Cond.code ({ cls := "java/util/BitSet", name := "checkInvariants", desc := "()V" } : Jvm.MethodName) prog_49_method_2_code (1 : Nat) (Option.none : Option Jvm.ClassFile.FieldType)) ∈ lw_all := lw_g (lw_at lw_m3 55 rfl) rfl
theorem q644 : (Jvm.Cond.fieldLink "java/util/BitSet" (3 : Nat) "java/util/BitSet" "$assertionsDisabled" "Z") ∈ lw_all := lw_g (lw_at lw_m3 56 rfl) rfl
theorem q645 : (Jvm.Cond.laysStatic "java/util/BitSet" "$assertionsDisabled" "Z") ∈ lw_tbl := lw_at lw_m3 57 rfl
theorem q738 : (Jvm.Cond.selects "java/util/BitSet" ({ cls := "java/lang/Object", name := "getClass", desc := "()Ljava/lang/Class;" } : Jvm.MethodName) ({ cls := "java/lang/Object", name := "getClass", desc := "()Ljava/lang/Class;" } : Jvm.MethodName)) ∈ lw_all := lw_g (lw_at lw_m3 150 rfl) rfl
theorem q1962 : (Jvm.Cond.instanceMethod ({ cls := "java/util/BitSet", name := "get", desc := "(I)Z" } : Jvm.MethodName)) ∈ lw_all := lw_g (lw_at lw_m8 174 rfl) rfl
theorem q1963 : (Jvm.Cond.selects "java/util/BitSet" ({ cls := "java/util/BitSet", name := "get", desc := "(I)Z" } : Jvm.MethodName) ({ cls := "java/util/BitSet", name := "get", desc := "(I)Z" } : Jvm.MethodName)) ∈ lw_all := lw_g (lw_at lw_m8 175 rfl) rfl
theorem q1964 : (Jvm.Cond.code ({ cls := "java/util/BitSet", name := "get", desc := "(I)Z" } : Jvm.MethodName) prog_49_method_26_code (3 : Nat) (Option.some Jvm.ClassFile.FieldType.boolean)) ∈ lw_all := lw_g (lw_at lw_m8 176 rfl) rfl
theorem q2151 : (Jvm.Cond.instanceMethod ({ cls := "java/util/BitSet", name := "clear", desc := "(I)V" } : Jvm.MethodName)) ∈ lw_all := lw_g (lw_at lw_m9 123 rfl) rfl
theorem q2152 : (Jvm.Cond.selects "java/util/BitSet" ({ cls := "java/util/BitSet", name := "clear", desc := "(I)V" } : Jvm.MethodName) ({ cls := "java/util/BitSet", name := "clear", desc := "(I)V" } : Jvm.MethodName)) ∈ lw_all := lw_g (lw_at lw_m9 124 rfl) rfl
theorem q2153 : (Jvm.Cond.code ({ cls := "java/util/BitSet", name := "clear", desc := "(I)V" } : Jvm.MethodName) prog_49_method_23_code (3 : Nat) (Option.none : Option Jvm.ClassFile.FieldType)) ∈ lw_all := lw_g (lw_at lw_m9 125 rfl) rfl
theorem q2154 : (Jvm.Cond.constantLong "java/util/BitSet" (165 : Nat) (-1 : Int64)) ∈ lw_all := lw_g (lw_at lw_m9 126 rfl) rfl
theorem q2155 : (Jvm.Cond.methodLink "java/util/BitSet" (158 : Nat) ({ cls := "java/util/BitSet", name := "recalculateWordsInUse", desc := "()V" } : Jvm.MethodName)) ∈ lw_all := lw_g (lw_at lw_m9 127 rfl) rfl
theorem q2156 : (Jvm.Cond.privateMethod ({ cls := "java/util/BitSet", name := "recalculateWordsInUse", desc := "()V" } : Jvm.MethodName)) ∈ lw_tbl := lw_at lw_m9 128 rfl
theorem q2157 : (Jvm.Cond.instanceMethod ({ cls := "java/util/BitSet", name := "recalculateWordsInUse", desc := "()V" } : Jvm.MethodName)) ∈ lw_all := lw_g (lw_at lw_m9 129 rfl) rfl
theorem q2158 : (Jvm.Cond.code ({ cls := "java/util/BitSet", name := "recalculateWordsInUse", desc := "()V" } : Jvm.MethodName) prog_49_method_3_code (2 : Nat) (Option.none : Option Jvm.ClassFile.FieldType)) ∈ lw_all := lw_g (lw_at lw_m9 130 rfl) rfl
theorem q3120 : (Jvm.Cond.castable "java/util/BitSet" "java/lang/Object") ∈ lw_tbl := lw_at lw_m13 132 rfl
theorem in_J3 : ∀ w ∈ wsJ30, w ∈ lw_all := lw_in wsJ30 [239, 241, 243] (by decide +kernel) (by decide +kernel)

theorem q115 : (Jvm.Cond.initialized "java/util/ArrayDeque") ∈ lw_all := lw_g (lw_at lw_m1 7 rfl) rfl
theorem q248 : (Jvm.Cond.instantiable "java/util/ArrayDeque" (3 : Nat)) ∈ lw_all := lw_g (lw_at lw_m1 140 rfl) rfl
theorem q250 : (Jvm.Cond.instanceMethod ({ cls := "java/util/ArrayDeque", name := "<init>", desc := "()V" } : Jvm.MethodName)) ∈ lw_all := lw_g (lw_at lw_m1 142 rfl) rfl
theorem q251 : (Jvm.Cond.code ({ cls := "java/util/ArrayDeque", name := "<init>", desc := "()V" } : Jvm.MethodName) prog_43_method_3_code (1 : Nat) (Option.none : Option Jvm.ClassFile.FieldType)) ∈ lw_all := lw_g (lw_at lw_m1 143 rfl) rfl
theorem q252 : (Jvm.Cond.methodLink "java/util/ArrayDeque" (42 : Nat) ({ cls := "java/util/AbstractCollection", name := "<init>", desc := "()V" } : Jvm.MethodName)) ∈ lw_all := lw_g (lw_at lw_m1 144 rfl) rfl
theorem q253 : (Jvm.Cond.classLink "java/util/ArrayDeque" (47 : Nat) "java/lang/Object") ∈ lw_all := lw_g (lw_at lw_m1 145 rfl) rfl
theorem q255 : (Jvm.Cond.fieldLink "java/util/ArrayDeque" (3 : Nat) "java/util/ArrayDeque" "elements" "[Ljava/lang/Object;") ∈ lw_all := lw_g (lw_at lw_m1 147 rfl) rfl
theorem q258 : (Jvm.Cond.fieldLink "java/util/ArrayDeque" (24 : Nat) "java/util/ArrayDeque" "head" "I") ∈ lw_all := lw_g (lw_at lw_m1 150 rfl) rfl
theorem q259 : (Jvm.Cond.fieldLink "java/util/ArrayDeque" (20 : Nat) "java/util/ArrayDeque" "tail" "I") ∈ lw_all := lw_g (lw_at lw_m1 151 rfl) rfl
theorem q260 : (Jvm.Cond.lays "java/util/ArrayDeque" "java/util/ArrayDeque" "elements" "[Ljava/lang/Object;") ∈ lw_all := lw_g (lw_at lw_m1 152 rfl) rfl
theorem q261 : (Jvm.Cond.soleField "java/util/ArrayDeque" "elements") ∈ lw_all := lw_g (lw_at lw_m1 153 rfl) rfl
theorem q262 : (Jvm.Cond.lays "java/util/ArrayDeque" "java/util/ArrayDeque" "head" "I") ∈ lw_all := lw_g (lw_at lw_m1 154 rfl) rfl
theorem q263 : (Jvm.Cond.soleField "java/util/ArrayDeque" "head") ∈ lw_all := lw_g (lw_at lw_m1 155 rfl) rfl
theorem q264 : (Jvm.Cond.lays "java/util/ArrayDeque" "java/util/ArrayDeque" "tail" "I") ∈ lw_all := lw_g (lw_at lw_m1 156 rfl) rfl
theorem q265 : (Jvm.Cond.soleField "java/util/ArrayDeque" "tail") ∈ lw_all := lw_g (lw_at lw_m1 157 rfl) rfl
theorem q266 : (Jvm.Cond.superclass "java/util/ArrayDeque" "java/util/AbstractCollection") ∈ lw_all := lw_g (lw_at lw_m1 158 rfl) rfl
theorem q651 : (Jvm.Cond.instanceMethod ({ cls := "java/util/ArrayDeque", name := "clear", desc := "()V" } : Jvm.MethodName)) ∈ lw_all := lw_g (lw_at lw_m3 63 rfl) rfl
theorem q652 : (Jvm.Cond.selects "java/util/ArrayDeque" ({ cls := "java/util/ArrayDeque", name := "clear", desc := "()V" } : Jvm.MethodName) ({ cls := "java/util/ArrayDeque", name := "clear", desc := "()V" } : Jvm.MethodName)) ∈ lw_all := lw_g (lw_at lw_m3 64 rfl) rfl
theorem q653 : (Jvm.Cond.code ({ cls := "java/util/ArrayDeque", name := "clear", desc := "()V" } : Jvm.MethodName) prog_43_method_53_code (1 : Nat) (Option.none : Option Jvm.ClassFile.FieldType)) ∈ lw_all := lw_g (lw_at lw_m3 65 rfl) rfl
theorem q654 : (Jvm.Cond.methodLink "java/util/ArrayDeque" (181 : Nat) ({ cls := "java/util/ArrayDeque", name := "circularClear", desc := "([Ljava/lang/Object;II)V" } : Jvm.MethodName)) ∈ lw_all := lw_g (lw_at lw_m3 66 rfl) rfl
theorem q655 : (Jvm.Cond.static ({ cls := "java/util/ArrayDeque", name := "circularClear", desc := "([Ljava/lang/Object;II)V" } : Jvm.MethodName)) ∈ lw_all := lw_g (lw_at lw_m3 67 rfl) rfl
theorem q656 : (Jvm.Cond.code ({ cls := "java/util/ArrayDeque", name := "circularClear", desc := "([Ljava/lang/Object;II)V" } : Jvm.MethodName) prog_43_method_54_code (4 : Nat) (Option.none : Option Jvm.ClassFile.FieldType)) ∈ lw_all := lw_g (lw_at lw_m3 68 rfl) rfl
theorem q678 : (Jvm.Cond.instanceMethod ({ cls := "java/util/ArrayDeque", name := "addLast", desc := "(Ljava/lang/Object;)V" } : Jvm.MethodName)) ∈ lw_all := lw_g (lw_at lw_m3 90 rfl) rfl
theorem q679 : (Jvm.Cond.selects "java/util/ArrayDeque" ({ cls := "java/util/ArrayDeque", name := "addLast", desc := "(Ljava/lang/Object;)V" } : Jvm.MethodName) ({ cls := "java/util/ArrayDeque", name := "addLast", desc := "(Ljava/lang/Object;)V" } : Jvm.MethodName)) ∈ lw_all := lw_g (lw_at lw_m3 91 rfl) rfl
theorem q680 : (Jvm.Cond.code ({ cls := "java/util/ArrayDeque", name := "addLast", desc := "(Ljava/lang/Object;)V" } : Jvm.MethodName) prog_43_method_13_code (3 : Nat) (Option.none : Option Jvm.ClassFile.FieldType)) ∈ lw_all := lw_g (lw_at lw_m3 92 rfl) rfl
theorem q681 : (Jvm.Cond.methodLink "java/util/ArrayDeque" (74 : Nat) ({ cls := "java/util/ArrayDeque", name := "inc", desc := "(II)I" } : Jvm.MethodName)) ∈ lw_all := lw_g (lw_at lw_m3 93 rfl) rfl
theorem q682 : (Jvm.Cond.static ({ cls := "java/util/ArrayDeque", name := "inc", desc := "(II)I" } : Jvm.MethodName)) ∈ lw_all := lw_g (lw_at lw_m3 94 rfl) rfl
theorem q683 : (Jvm.Cond.code ({ cls := "java/util/ArrayDeque", name := "inc", desc := "(II)I" } : Jvm.MethodName) prog_43_method_6_code (2 : Nat) (Option.some Jvm.ClassFile.FieldType.int)) ∈ lw_all := lw_g (lw_at lw_m3 95 rfl) rfl
theorem q684 : (Jvm.Cond.methodLink "java/util/ArrayDeque" (71 : Nat) ({ cls := "java/util/ArrayDeque", name := "grow", desc := "(I)V" } : Jvm.MethodName)) ∈ lw_all := lw_g (lw_at lw_m3 96 rfl) rfl
theorem q685 : (Jvm.Cond.privateMethod ({ cls := "java/util/ArrayDeque", name := "grow", desc := "(I)V" } : Jvm.MethodName)) ∈ lw_tbl := lw_at lw_m3 97 rfl
theorem q686 : (Jvm.Cond.instanceMethod ({ cls := "java/util/ArrayDeque", name := "grow", desc := "(I)V" } : Jvm.MethodName)) ∈ lw_all := lw_g (lw_at lw_m3 98 rfl) rfl
theorem q687 : (Jvm.Cond.code ({ cls := "java/util/ArrayDeque", name := "grow", desc := "(I)V" } : Jvm.MethodName) prog_43_method_1_code (9 : Nat) (Option.none : Option Jvm.ClassFile.FieldType)) ∈ lw_all := lw_g (lw_at lw_m3 99 rfl) rfl
theorem q688 : (Jvm.Cond.constant "java/util/ArrayDeque" (9 : Nat) (2147483639 : Int32)) ∈ lw_all := lw_g (lw_at lw_m3 100 rfl) rfl
theorem q689 : (Jvm.Cond.methodLink "java/util/ArrayDeque" (10 : Nat) ({ cls := "java/util/ArrayDeque", name := "newCapacity", desc := "(II)I" } : Jvm.MethodName)) ∈ lw_all := lw_g (lw_at lw_m3 101 rfl) rfl
theorem q690 : (Jvm.Cond.privateMethod ({ cls := "java/util/ArrayDeque", name := "newCapacity", desc := "(II)I" } : Jvm.MethodName)) ∈ lw_tbl := lw_at lw_m3 102 rfl
theorem q691 : (Jvm.Cond.instanceMethod ({ cls := "java/util/ArrayDeque", name := "newCapacity", desc := "(II)I" } : Jvm.MethodName)) ∈ lw_all := lw_g (lw_at lw_m3 103 rfl) rfl
theorem q692 : (Jvm.Cond.code ({ cls := "java/util/ArrayDeque", name := "newCapacity", desc := "(II)I" } : Jvm.MethodName) prog_43_method_2_code (5 : Nat) (Option.some Jvm.ClassFile.FieldType.int)) ∈ lw_all := lw_g (lw_at lw_m3 104 rfl) rfl
theorem q693 : (Jvm.Cond.classLink "java/util/ArrayDeque" (33 : Nat) "java/lang/IllegalStateException") ∈ lw_all := lw_g (lw_at lw_m3 105 rfl) rfl
theorem q702 : (Jvm.Cond.stringRef "java/util/ArrayDeque" (35 : Nat) "Sorry, deque too big") ∈ lw_tbl := lw_at lw_m3 114 rfl
theorem q703 : (Jvm.Cond.methodLink "java/util/ArrayDeque" (37 : Nat) ({ cls := "java/lang/IllegalStateException", name := "<init>", desc := "(Ljava/lang/String;)V" } : Jvm.MethodName)) ∈ lw_all := lw_g (lw_at lw_m3 115 rfl) rfl
theorem q709 : (Jvm.Cond.constant "java/util/ArrayDeque" (41 : Nat) (2147483647 : Int32)) ∈ lw_all := lw_g (lw_at lw_m3 121 rfl) rfl
theorem q710 : (Jvm.Cond.methodLink "java/util/ArrayDeque" (14 : Nat) ({ cls := "java/util/Arrays", name := "copyOf", desc := "([Ljava/lang/Object;I)[Ljava/lang/Object;" } : Jvm.MethodName)) ∈ lw_all := lw_g (lw_at lw_m3 122 rfl) rfl
theorem q733 : (Jvm.Cond.selects "java/util/ArrayDeque" ({ cls := "java/lang/Object", name := "getClass", desc := "()Ljava/lang/Class;" } : Jvm.MethodName) ({ cls := "java/lang/Object", name := "getClass", desc := "()Ljava/lang/Class;" } : Jvm.MethodName)) ∈ lw_all := lw_g (lw_at lw_m3 145 rfl) rfl
theorem q751 : (Jvm.Cond.methodLink "java/util/ArrayDeque" (27 : Nat) ({ cls := "java/lang/System", name := "arraycopy", desc := "(Ljava/lang/Object;ILjava/lang/Object;II)V" } : Jvm.MethodName)) ∈ lw_all := lw_g (lw_at lw_m3 163 rfl) rfl
theorem q901 : (Jvm.Cond.instanceMethod ({ cls := "java/util/ArrayDeque", name := "size", desc := "()I" } : Jvm.MethodName)) ∈ lw_all := lw_g (lw_at lw_m4 73 rfl) rfl
theorem q902 : (Jvm.Cond.selects "java/util/ArrayDeque" ({ cls := "java/util/ArrayDeque", name := "size", desc := "()I" } : Jvm.MethodName) ({ cls := "java/util/ArrayDeque", name := "size", desc := "()I" } : Jvm.MethodName)) ∈ lw_all := lw_g (lw_at lw_m4 74 rfl) rfl
theorem q903 : (Jvm.Cond.code ({ cls := "java/util/ArrayDeque", name := "size", desc := "()I" } : Jvm.MethodName) prog_43_method_37_code (1 : Nat) (Option.some Jvm.ClassFile.FieldType.int)) ∈ lw_all := lw_g (lw_at lw_m4 75 rfl) rfl
theorem q904 : (Jvm.Cond.methodLink "java/util/ArrayDeque" (127 : Nat) ({ cls := "java/util/ArrayDeque", name := "sub", desc := "(III)I" } : Jvm.MethodName)) ∈ lw_all := lw_g (lw_at lw_m4 76 rfl) rfl
theorem q905 : (Jvm.Cond.static ({ cls := "java/util/ArrayDeque", name := "sub", desc := "(III)I" } : Jvm.MethodName)) ∈ lw_all := lw_g (lw_at lw_m4 77 rfl) rfl
theorem q906 : (Jvm.Cond.code ({ cls := "java/util/ArrayDeque", name := "sub", desc := "(III)I" } : Jvm.MethodName) prog_43_method_9_code (3 : Nat) (Option.some Jvm.ClassFile.FieldType.int)) ∈ lw_all := lw_g (lw_at lw_m4 78 rfl) rfl
theorem q1285 : (Jvm.Cond.static ({ cls := "java/util/ArrayDeque", name := "nonNullElementAt", desc := "([Ljava/lang/Object;I)Ljava/lang/Object;" } : Jvm.MethodName)) ∈ lw_all := lw_g (lw_at lw_m5 217 rfl) rfl
theorem q1286 : (Jvm.Cond.code ({ cls := "java/util/ArrayDeque", name := "nonNullElementAt", desc := "([Ljava/lang/Object;I)Ljava/lang/Object;" } : Jvm.MethodName) prog_43_method_11_code (3 : Nat) (Option.some (Jvm.ClassFile.FieldType.object "java/lang/Object"))) ∈ lw_all := lw_g (lw_at lw_m5 218 rfl) rfl
theorem q1433 : (Jvm.Cond.instanceMethod ({ cls := "java/util/ArrayDeque", name := "iterator", desc := "()Ljava/util/Iterator;" } : Jvm.MethodName)) ∈ lw_all := lw_g (lw_at lw_m6 125 rfl) rfl
theorem q1434 : (Jvm.Cond.selects "java/util/ArrayDeque" ({ cls := "java/util/ArrayDeque", name := "iterator", desc := "()Ljava/util/Iterator;" } : Jvm.MethodName) ({ cls := "java/util/ArrayDeque", name := "iterator", desc := "()Ljava/util/Iterator;" } : Jvm.MethodName)) ∈ lw_all := lw_g (lw_at lw_m6 126 rfl) rfl
theorem q1435 : (Jvm.Cond.code ({ cls := "java/util/ArrayDeque", name := "iterator", desc := "()Ljava/util/Iterator;" } : Jvm.MethodName) prog_43_method_39_code (1 : Nat) (Option.some (Jvm.ClassFile.FieldType.object "java/util/Iterator"))) ∈ lw_all := lw_g (lw_at lw_m6 127 rfl) rfl
theorem q1436 : (Jvm.Cond.classLink "java/util/ArrayDeque" (131 : Nat) "java/util/ArrayDeque$DeqIterator") ∈ lw_all := lw_g (lw_at lw_m6 128 rfl) rfl
theorem q1438 : (Jvm.Cond.methodLink "java/util/ArrayDeque" (133 : Nat) ({ cls := "java/util/ArrayDeque$DeqIterator", name := "<init>", desc := "(Ljava/util/ArrayDeque;)V" } : Jvm.MethodName)) ∈ lw_all := lw_g (lw_at lw_m6 130 rfl) rfl
theorem q1715 : (Jvm.Cond.instanceMethod ({ cls := "java/util/ArrayDeque", name := "delete", desc := "(I)Z" } : Jvm.MethodName)) ∈ lw_all := lw_g (lw_at lw_m7 167 rfl) rfl
theorem q1716 : (Jvm.Cond.selects "java/util/ArrayDeque" ({ cls := "java/util/ArrayDeque", name := "delete", desc := "(I)Z" } : Jvm.MethodName) ({ cls := "java/util/ArrayDeque", name := "delete", desc := "(I)Z" } : Jvm.MethodName)) ∈ lw_all := lw_g (lw_at lw_m7 168 rfl) rfl
theorem q1717 : (Jvm.Cond.code ({ cls := "java/util/ArrayDeque", name := "delete", desc := "(I)Z" } : Jvm.MethodName) prog_43_method_36_code (8 : Nat) (Option.some Jvm.ClassFile.FieldType.boolean)) ∈ lw_all := lw_g (lw_at lw_m7 169 rfl) rfl
theorem q1718 : (Jvm.Cond.methodLink "java/util/ArrayDeque" (68 : Nat) ({ cls := "java/util/ArrayDeque", name := "dec", desc := "(II)I" } : Jvm.MethodName)) ∈ lw_all := lw_g (lw_at lw_m7 170 rfl) rfl
theorem q1719 : (Jvm.Cond.static ({ cls := "java/util/ArrayDeque", name := "dec", desc := "(II)I" } : Jvm.MethodName)) ∈ lw_all := lw_g (lw_at lw_m7 171 rfl) rfl
theorem q1720 : (Jvm.Cond.code ({ cls := "java/util/ArrayDeque", name := "dec", desc := "(II)I" } : Jvm.MethodName) prog_43_method_7_code (2 : Nat) (Option.some Jvm.ClassFile.FieldType.int)) ∈ lw_all := lw_g (lw_at lw_m7 172 rfl) rfl
theorem q2117 : (Jvm.Cond.instanceMethod ({ cls := "java/util/ArrayDeque", name := "isEmpty", desc := "()Z" } : Jvm.MethodName)) ∈ lw_all := lw_g (lw_at lw_m9 89 rfl) rfl
theorem q2118 : (Jvm.Cond.selects "java/util/ArrayDeque" ({ cls := "java/util/ArrayDeque", name := "isEmpty", desc := "()Z" } : Jvm.MethodName) ({ cls := "java/util/ArrayDeque", name := "isEmpty", desc := "()Z" } : Jvm.MethodName)) ∈ lw_all := lw_g (lw_at lw_m9 90 rfl) rfl
theorem q2119 : (Jvm.Cond.code ({ cls := "java/util/ArrayDeque", name := "isEmpty", desc := "()Z" } : Jvm.MethodName) prog_43_method_38_code (1 : Nat) (Option.some Jvm.ClassFile.FieldType.boolean)) ∈ lw_all := lw_g (lw_at lw_m9 91 rfl) rfl
theorem q2121 : (Jvm.Cond.instanceMethod ({ cls := "java/util/ArrayDeque", name := "getFirst", desc := "()Ljava/lang/Object;" } : Jvm.MethodName)) ∈ lw_all := lw_g (lw_at lw_m9 93 rfl) rfl
theorem q2122 : (Jvm.Cond.selects "java/util/ArrayDeque" ({ cls := "java/util/ArrayDeque", name := "getFirst", desc := "()Ljava/lang/Object;" } : Jvm.MethodName) ({ cls := "java/util/ArrayDeque", name := "getFirst", desc := "()Ljava/lang/Object;" } : Jvm.MethodName)) ∈ lw_all := lw_g (lw_at lw_m9 94 rfl) rfl
theorem q2123 : (Jvm.Cond.code ({ cls := "java/util/ArrayDeque", name := "getFirst", desc := "()Ljava/lang/Object;" } : Jvm.MethodName) prog_43_method_22_code (2 : Nat) (Option.some (Jvm.ClassFile.FieldType.object "java/lang/Object"))) ∈ lw_all := lw_g (lw_at lw_m9 95 rfl) rfl
theorem q2124 : (Jvm.Cond.methodLink "java/util/ArrayDeque" (103 : Nat) ({ cls := "java/util/ArrayDeque", name := "elementAt", desc := "([Ljava/lang/Object;I)Ljava/lang/Object;" } : Jvm.MethodName)) ∈ lw_all := lw_g (lw_at lw_m9 96 rfl) rfl
theorem q2125 : (Jvm.Cond.static ({ cls := "java/util/ArrayDeque", name := "elementAt", desc := "([Ljava/lang/Object;I)Ljava/lang/Object;" } : Jvm.MethodName)) ∈ lw_all := lw_g (lw_at lw_m9 97 rfl) rfl
theorem q2126 : (Jvm.Cond.code ({ cls := "java/util/ArrayDeque", name := "elementAt", desc := "([Ljava/lang/Object;I)Ljava/lang/Object;" } : Jvm.MethodName) prog_43_method_10_code (2 : Nat) (Option.some (Jvm.ClassFile.FieldType.object "java/lang/Object"))) ∈ lw_all := lw_g (lw_at lw_m9 98 rfl) rfl
theorem q2127 : (Jvm.Cond.classLink "java/util/ArrayDeque" (97 : Nat) "java/util/NoSuchElementException") ∈ lw_all := lw_g (lw_at lw_m9 99 rfl) rfl
theorem q2128 : (Jvm.Cond.methodLink "java/util/ArrayDeque" (99 : Nat) ({ cls := "java/util/NoSuchElementException", name := "<init>", desc := "()V" } : Jvm.MethodName)) ∈ lw_all := lw_g (lw_at lw_m9 100 rfl) rfl
theorem q2139 : (Jvm.Cond.instanceMethod ({ cls := "java/util/ArrayDeque", name := "removeFirst", desc := "()Ljava/lang/Object;" } : Jvm.MethodName)) ∈ lw_all := lw_g (lw_at lw_m9 111 rfl) rfl
theorem q2140 : (Jvm.Cond.selects "java/util/ArrayDeque" ({ cls := "java/util/ArrayDeque", name := "removeFirst", desc := "()Ljava/lang/Object;" } : Jvm.MethodName) ({ cls := "java/util/ArrayDeque", name := "removeFirst", desc := "()Ljava/lang/Object;" } : Jvm.MethodName)) ∈ lw_all := lw_g (lw_at lw_m9 112 rfl) rfl
theorem q2141 : (Jvm.Cond.code ({ cls := "java/util/ArrayDeque", name := "removeFirst", desc := "()Ljava/lang/Object;" } : Jvm.MethodName) prog_43_method_18_code (2 : Nat) (Option.some (Jvm.ClassFile.FieldType.object "java/lang/Object"))) ∈ lw_all := lw_g (lw_at lw_m9 113 rfl) rfl
theorem q2142 : (Jvm.Cond.methodLink "java/util/ArrayDeque" (93 : Nat) ({ cls := "java/util/ArrayDeque", name := "pollFirst", desc := "()Ljava/lang/Object;" } : Jvm.MethodName)) ∈ lw_all := lw_g (lw_at lw_m9 114 rfl) rfl
theorem q2143 : (Jvm.Cond.instanceMethod ({ cls := "java/util/ArrayDeque", name := "pollFirst", desc := "()Ljava/lang/Object;" } : Jvm.MethodName)) ∈ lw_all := lw_g (lw_at lw_m9 115 rfl) rfl
theorem q2144 : (Jvm.Cond.selects "java/util/ArrayDeque" ({ cls := "java/util/ArrayDeque", name := "pollFirst", desc := "()Ljava/lang/Object;" } : Jvm.MethodName) ({ cls := "java/util/ArrayDeque", name := "pollFirst", desc := "()Ljava/lang/Object;" } : Jvm.MethodName)) ∈ lw_all := lw_g (lw_at lw_m9 116 rfl) rfl
theorem q2145 : (Jvm.Cond.code ({ cls := "java/util/ArrayDeque", name := "pollFirst", desc := "()Ljava/lang/Object;" } : Jvm.MethodName) prog_43_method_20_code (4 : Nat) (Option.some (Jvm.ClassFile.FieldType.object "java/lang/Object"))) ∈ lw_all := lw_g (lw_at lw_m9 117 rfl) rfl
theorem q2396 : (Jvm.Cond.instanceMethod ({ cls := "java/util/ArrayDeque", name := "contains", desc := "(Ljava/lang/Object;)Z" } : Jvm.MethodName)) ∈ lw_all := lw_g (lw_at lw_m10 128 rfl) rfl
theorem q2397 : (Jvm.Cond.selects "java/util/ArrayDeque" ({ cls := "java/util/ArrayDeque", name := "contains", desc := "(Ljava/lang/Object;)Z" } : Jvm.MethodName) ({ cls := "java/util/ArrayDeque", name := "contains", desc := "(Ljava/lang/Object;)Z" } : Jvm.MethodName)) ∈ lw_all := lw_g (lw_at lw_m10 129 rfl) rfl
theorem q2398 : (Jvm.Cond.code ({ cls := "java/util/ArrayDeque", name := "contains", desc := "(Ljava/lang/Object;)Z" } : Jvm.MethodName) prog_43_method_51_code (6 : Nat) (Option.some Jvm.ClassFile.FieldType.boolean)) ∈ lw_all := lw_g (lw_at lw_m10 130 rfl) rfl
theorem q2400 : (Jvm.Cond.methodLink "java/util/ArrayDeque" (107 : Nat) ({ cls := "java/lang/Object", name := "equals", desc := "(Ljava/lang/Object;)Z" } : Jvm.MethodName)) ∈ lw_all := lw_g (lw_at lw_m10 132 rfl) rfl
theorem q3110 : (Jvm.Cond.selects "java/util/ArrayDeque" ({ cls := "java/util/AbstractCollection", name := "size", desc := "()I" } : Jvm.MethodName) ({ cls := "java/util/ArrayDeque", name := "size", desc := "()I" } : Jvm.MethodName)) ∈ lw_all := lw_g (lw_at lw_m13 122 rfl) rfl
theorem q3121 : (Jvm.Cond.castable "java/util/ArrayDeque" "java/lang/Object") ∈ lw_tbl := lw_at lw_m13 133 rfl
theorem in_J4 : ∀ w ∈ wsJ40, w ∈ lw_all := lw_in wsJ40 [260, 262, 264] (by decide +kernel) (by decide +kernel)

theorem q116 : (Jvm.Cond.initialized "java/util/AbstractSequentialList") ∈ lw_all := lw_g (lw_at lw_m1 8 rfl) rfl
theorem q273 : (Jvm.Cond.instanceMethod ({ cls := "java/util/AbstractSequentialList", name := "<init>", desc := "()V" } : Jvm.MethodName)) ∈ lw_all := lw_g (lw_at lw_m1 165 rfl) rfl
theorem q274 : (Jvm.Cond.code ({ cls := "java/util/AbstractSequentialList", name := "<init>", desc := "()V" } : Jvm.MethodName) prog_42_method_1_code (1 : Nat) (Option.none : Option Jvm.ClassFile.FieldType)) ∈ lw_all := lw_g (lw_at lw_m1 166 rfl) rfl
theorem q275 : (Jvm.Cond.methodLink "java/util/AbstractSequentialList" (1 : Nat) ({ cls := "java/util/AbstractList", name := "<init>", desc := "()V" } : Jvm.MethodName)) ∈ lw_all := lw_g (lw_at lw_m1 167 rfl) rfl
theorem q1024 : (Jvm.Cond.instanceMethod ({ cls := "java/util/AbstractSequentialList", name := "iterator", desc := "()Ljava/util/Iterator;" } : Jvm.MethodName)) ∈ lw_all := lw_g (lw_at lw_m4 196 rfl) rfl
theorem q1025 : (Jvm.Cond.publicMethod ({ cls := "java/util/AbstractSequentialList", name := "iterator", desc := "()Ljava/util/Iterator;" } : Jvm.MethodName)) ∈ lw_tbl := lw_at lw_m4 197 rfl
theorem q1026 : (Jvm.Cond.code ({ cls := "java/util/AbstractSequentialList", name := "iterator", desc := "()Ljava/util/Iterator;" } : Jvm.MethodName) prog_42_method_7_code (1 : Nat) (Option.some (Jvm.ClassFile.FieldType.object "java/util/Iterator"))) ∈ lw_all := lw_g (lw_at lw_m4 198 rfl) rfl
theorem q1027 : (Jvm.Cond.methodLink "java/util/AbstractSequentialList" (65 : Nat) ({ cls := "java/util/AbstractSequentialList", name := "listIterator", desc := "()Ljava/util/ListIterator;" } : Jvm.MethodName)) ∈ lw_all := lw_g (lw_at lw_m4 199 rfl) rfl
theorem q1028 : (Jvm.Cond.sameMethod "java/util/AbstractSequentialList" "java/util/AbstractList" "listIterator" "()Ljava/util/ListIterator;") ∈ lw_all := lw_g (lw_at lw_m4 200 rfl) rfl
theorem q1466 : (Jvm.Cond.declares ({ cls := "java/util/AbstractSequentialList", name := "iterator", desc := "()Ljava/util/Iterator;" } : Jvm.MethodName)) ∈ lw_tbl := lw_at lw_m6 158 rfl

theorem q117 : (Jvm.Cond.initialized "java/util/LinkedList") ∈ lw_all := lw_g (lw_at lw_m1 9 rfl) rfl
theorem q185 : (Jvm.Cond.sameField "java/util/LinkedList" "java/util/AbstractList" "modCount" "I") ∈ lw_all := lw_g (lw_at lw_m1 77 rfl) rfl
theorem q189 : (Jvm.Cond.fieldLink "java/util/LinkedList" (33 : Nat) "java/util/LinkedList" "modCount" "I") ∈ lw_all := lw_g (lw_at lw_m1 81 rfl) rfl
theorem q268 : (Jvm.Cond.instantiable "java/util/LinkedList" (4 : Nat)) ∈ lw_all := lw_g (lw_at lw_m1 160 rfl) rfl
theorem q270 : (Jvm.Cond.instanceMethod ({ cls := "java/util/LinkedList", name := "<init>", desc := "()V" } : Jvm.MethodName)) ∈ lw_all := lw_g (lw_at lw_m1 162 rfl) rfl
theorem q271 : (Jvm.Cond.code ({ cls := "java/util/LinkedList", name := "<init>", desc := "()V" } : Jvm.MethodName) prog_54_method_1_code (1 : Nat) (Option.none : Option Jvm.ClassFile.FieldType)) ∈ lw_all := lw_g (lw_at lw_m1 163 rfl) rfl
theorem q272 : (Jvm.Cond.methodLink "java/util/LinkedList" (1 : Nat) ({ cls := "java/util/AbstractSequentialList", name := "<init>", desc := "()V" } : Jvm.MethodName)) ∈ lw_all := lw_g (lw_at lw_m1 164 rfl) rfl
theorem q276 : (Jvm.Cond.fieldLink "java/util/LinkedList" (7 : Nat) "java/util/LinkedList" "size" "I") ∈ lw_all := lw_g (lw_at lw_m1 168 rfl) rfl
theorem q278 : (Jvm.Cond.fieldLink "java/util/LinkedList" (18 : Nat) "java/util/LinkedList" "first" "Ljava/util/LinkedList$Node;") ∈ lw_all := lw_g (lw_at lw_m1 170 rfl) rfl
theorem q279 : (Jvm.Cond.fieldLink "java/util/LinkedList" (27 : Nat) "java/util/LinkedList" "last" "Ljava/util/LinkedList$Node;") ∈ lw_all := lw_g (lw_at lw_m1 171 rfl) rfl
theorem q281 : (Jvm.Cond.lays "java/util/LinkedList" "java/util/LinkedList" "size" "I") ∈ lw_all := lw_g (lw_at lw_m1 173 rfl) rfl
theorem q282 : (Jvm.Cond.soleField "java/util/LinkedList" "size") ∈ lw_all := lw_g (lw_at lw_m1 174 rfl) rfl
theorem q283 : (Jvm.Cond.lays "java/util/LinkedList" "java/util/LinkedList" "first" "Ljava/util/LinkedList$Node;") ∈ lw_all := lw_g (lw_at lw_m1 175 rfl) rfl
theorem q284 : (Jvm.Cond.soleField "java/util/LinkedList" "first") ∈ lw_all := lw_g (lw_at lw_m1 176 rfl) rfl
theorem q285 : (Jvm.Cond.lays "java/util/LinkedList" "java/util/LinkedList" "last" "Ljava/util/LinkedList$Node;") ∈ lw_all := lw_g (lw_at lw_m1 177 rfl) rfl
theorem q286 : (Jvm.Cond.soleField "java/util/LinkedList" "last") ∈ lw_all := lw_g (lw_at lw_m1 178 rfl) rfl
theorem q287 : (Jvm.Cond.lays "java/util/LinkedList" "java/util/AbstractList" "modCount" "I") ∈ lw_all := lw_g (lw_at lw_m1 179 rfl) rfl
theorem q288 : (Jvm.Cond.superclass "java/util/LinkedList" "java/util/AbstractSequentialList") ∈ lw_all := lw_g (lw_at lw_m1 180 rfl) rfl
theorem q740 : (Jvm.Cond.selects "java/util/LinkedList" ({ cls := "java/lang/Object", name := "getClass", desc := "()Ljava/lang/Class;" } : Jvm.MethodName) ({ cls := "java/lang/Object", name := "getClass", desc := "()Ljava/lang/Class;" } : Jvm.MethodName)) ∈ lw_all := lw_g (lw_at lw_m3 152 rfl) rfl
theorem q890 : (Jvm.Cond.castable "java/util/LinkedList" "java/util/List") ∈ lw_tbl := lw_at lw_m4 62 rfl
theorem q891 : (Jvm.Cond.selects "java/util/LinkedList" ({ cls := "java/util/List", name := "size", desc := "()I" } : Jvm.MethodName) ({ cls := "java/util/LinkedList", name := "size", desc := "()I" } : Jvm.MethodName)) ∈ lw_all := lw_g (lw_at lw_m4 63 rfl) rfl
theorem q892 : (Jvm.Cond.unhidden "java/util/LinkedList" "size" "()I") ∈ lw_tbl := lw_at lw_m4 64 rfl
theorem q893 : (Jvm.Cond.instanceMethod ({ cls := "java/util/LinkedList", name := "size", desc := "()I" } : Jvm.MethodName)) ∈ lw_all := lw_g (lw_at lw_m4 65 rfl) rfl
theorem q894 : (Jvm.Cond.publicMethod ({ cls := "java/util/LinkedList", name := "size", desc := "()I" } : Jvm.MethodName)) ∈ lw_tbl := lw_at lw_m4 66 rfl
theorem q895 : (Jvm.Cond.code ({ cls := "java/util/LinkedList", name := "size", desc := "()I" } : Jvm.MethodName) prog_54_method_16_code (1 : Nat) (Option.some Jvm.ClassFile.FieldType.int)) ∈ lw_all := lw_g (lw_at lw_m4 67 rfl) rfl
theorem q1022 : (Jvm.Cond.selects "java/util/LinkedList" ({ cls := "java/util/List", name := "iterator", desc := "()Ljava/util/Iterator;" } : Jvm.MethodName) ({ cls := "java/util/AbstractSequentialList", name := "iterator", desc := "()Ljava/util/Iterator;" } : Jvm.MethodName)) ∈ lw_all := lw_g (lw_at lw_m4 194 rfl) rfl
theorem q1023 : (Jvm.Cond.unhidden "java/util/LinkedList" "iterator" "()Ljava/util/Iterator;") ∈ lw_tbl := lw_at lw_m4 195 rfl
theorem q1030 : (Jvm.Cond.selects "java/util/LinkedList" ({ cls := "java/util/AbstractSequentialList", name := "listIterator", desc := "()Ljava/util/ListIterator;" } : Jvm.MethodName) ({ cls := "java/util/AbstractList", name := "listIterator", desc := "()Ljava/util/ListIterator;" } : Jvm.MethodName)) ∈ lw_all := lw_g (lw_at lw_m4 202 rfl) rfl
theorem q1070 : (Jvm.Cond.selects "java/util/LinkedList" ({ cls := "java/util/AbstractList", name := "listIterator", desc := "(I)Ljava/util/ListIterator;" } : Jvm.MethodName) ({ cls := "java/util/LinkedList", name := "listIterator", desc := "(I)Ljava/util/ListIterator;" } : Jvm.MethodName)) ∈ lw_all := lw_g (lw_at lw_m5 2 rfl) rfl
theorem q1071 : (Jvm.Cond.instanceMethod ({ cls := "java/util/LinkedList", name := "listIterator", desc := "(I)Ljava/util/ListIterator;" } : Jvm.MethodName)) ∈ lw_all := lw_g (lw_at lw_m5 3 rfl) rfl
theorem q1072 : (Jvm.Cond.code ({ cls := "java/util/LinkedList", name := "listIterator", desc := "(I)Ljava/util/ListIterator;" } : Jvm.MethodName) prog_54_method_49_code (2 : Nat) (Option.some (Jvm.ClassFile.FieldType.object "java/util/ListIterator"))) ∈ lw_all := lw_g (lw_at lw_m5 4 rfl) rfl
theorem q1073 : (Jvm.Cond.methodLink "java/util/LinkedList" (76 : Nat) ({ cls := "java/util/LinkedList", name := "checkPositionIndex", desc := "(I)V" } : Jvm.MethodName)) ∈ lw_all := lw_g (lw_at lw_m5 5 rfl) rfl
theorem q1074 : (Jvm.Cond.privateMethod ({ cls := "java/util/LinkedList", name := "checkPositionIndex", desc := "(I)V" } : Jvm.MethodName)) ∈ lw_tbl := lw_at lw_m5 6 rfl
theorem q1075 : (Jvm.Cond.instanceMethod ({ cls := "java/util/LinkedList", name := "checkPositionIndex", desc := "(I)V" } : Jvm.MethodName)) ∈ lw_all := lw_g (lw_at lw_m5 7 rfl) rfl
theorem q1076 : (Jvm.Cond.code ({ cls := "java/util/LinkedList", name := "checkPositionIndex", desc := "(I)V" } : Jvm.MethodName) prog_54_method_30_code (2 : Nat) (Option.none : Option Jvm.ClassFile.FieldType)) ∈ lw_all := lw_g (lw_at lw_m5 8 rfl) rfl
theorem q1077 : (Jvm.Cond.methodLink "java/util/LinkedList" (128 : Nat) ({ cls := "java/util/LinkedList", name := "isPositionIndex", desc := "(I)Z" } : Jvm.MethodName)) ∈ lw_all := lw_g (lw_at lw_m5 9 rfl) rfl
theorem q1078 : (Jvm.Cond.privateMethod ({ cls := "java/util/LinkedList", name := "isPositionIndex", desc := "(I)Z" } : Jvm.MethodName)) ∈ lw_tbl := lw_at lw_m5 10 rfl
theorem q1079 : (Jvm.Cond.instanceMethod ({ cls := "java/util/LinkedList", name := "isPositionIndex", desc := "(I)Z" } : Jvm.MethodName)) ∈ lw_all := lw_g (lw_at lw_m5 11 rfl) rfl
theorem q1080 : (Jvm.Cond.code ({ cls := "java/util/LinkedList", name := "isPositionIndex", desc := "(I)Z" } : Jvm.MethodName) prog_54_method_27_code (2 : Nat) (Option.some Jvm.ClassFile.FieldType.boolean)) ∈ lw_all := lw_g (lw_at lw_m5 12 rfl) rfl
theorem q1081 : (Jvm.Cond.classLink "java/util/LinkedList" (119 : Nat) "java/lang/IndexOutOfBoundsException") ∈ lw_all := lw_g (lw_at lw_m5 13 rfl) rfl
theorem q1082 : (Jvm.Cond.methodLink "java/util/LinkedList" (121 : Nat) ({ cls := "java/util/LinkedList", name := "outOfBoundsMsg", desc := "(I)Ljava/lang/String;" } : Jvm.MethodName)) ∈ lw_all := lw_g (lw_at lw_m5 14 rfl) rfl
theorem q1083 : (Jvm.Cond.privateMethod ({ cls := "java/util/LinkedList", name := "outOfBoundsMsg", desc := "(I)Ljava/lang/String;" } : Jvm.MethodName)) ∈ lw_tbl := lw_at lw_m5 15 rfl
theorem q1084 : (Jvm.Cond.instanceMethod ({ cls := "java/util/LinkedList", name := "outOfBoundsMsg", desc := "(I)Ljava/lang/String;" } : Jvm.MethodName)) ∈ lw_all := lw_g (lw_at lw_m5 16 rfl) rfl
theorem q1085 : (Jvm.Cond.code ({ cls := "java/util/LinkedList", name := "outOfBoundsMsg", desc := "(I)Ljava/lang/String;" } : Jvm.MethodName) prog_54_method_28_code (2 : Nat) (Option.some (Jvm.ClassFile.FieldType.object "java/lang/String"))) ∈ lw_all := lw_g (lw_at lw_m5 17 rfl) rfl
theorem q1086 : (Jvm.Cond.classLink "java/util/LinkedList" (97 : Nat) "java/lang/StringBuilder") ∈ lw_all := lw_g (lw_at lw_m5 18 rfl) rfl
theorem q1087 : (Jvm.Cond.methodLink "java/util/LinkedList" (99 : Nat) ({ cls := "java/lang/StringBuilder", name := "<init>", desc := "()V" } : Jvm.MethodName)) ∈ lw_all := lw_g (lw_at lw_m5 19 rfl) rfl
theorem q1088 : (Jvm.Cond.stringRef "java/util/LinkedList" (100 : Nat) "Index: ") ∈ lw_tbl := lw_at lw_m5 20 rfl
theorem q1089 : (Jvm.Cond.methodLink "java/util/LinkedList" (102 : Nat) ({ cls := "java/lang/StringBuilder", name := "append", desc := "(Ljava/lang/String;)Ljava/lang/StringBuilder;" } : Jvm.MethodName)) ∈ lw_all := lw_g (lw_at lw_m5 21 rfl) rfl
theorem q1090 : (Jvm.Cond.methodLink "java/util/LinkedList" (106 : Nat) ({ cls := "java/lang/StringBuilder", name := "append", desc := "(I)Ljava/lang/StringBuilder;" } : Jvm.MethodName)) ∈ lw_all := lw_g (lw_at lw_m5 22 rfl) rfl
theorem q1091 : (Jvm.Cond.stringRef "java/util/LinkedList" (109 : Nat) ", Size: ") ∈ lw_tbl := lw_at lw_m5 23 rfl
theorem q1092 : (Jvm.Cond.methodLink "java/util/LinkedList" (111 : Nat) ({ cls := "java/lang/StringBuilder", name := "toString", desc := "()Ljava/lang/String;" } : Jvm.MethodName)) ∈ lw_all := lw_g (lw_at lw_m5 24 rfl) rfl
theorem q1093 : (Jvm.Cond.methodLink "java/util/LinkedList" (125 : Nat) ({ cls := "java/lang/IndexOutOfBoundsException", name := "<init>", desc := "(Ljava/lang/String;)V" } : Jvm.MethodName)) ∈ lw_all := lw_g (lw_at lw_m5 25 rfl) rfl
theorem q1094 : (Jvm.Cond.classLink "java/util/LinkedList" (150 : Nat) "java/util/LinkedList$ListItr") ∈ lw_all := lw_g (lw_at lw_m5 26 rfl) rfl
theorem q1096 : (Jvm.Cond.methodLink "java/util/LinkedList" (152 : Nat) ({ cls := "java/util/LinkedList$ListItr", name := "<init>", desc := "(Ljava/util/LinkedList;I)V" } : Jvm.MethodName)) ∈ lw_all := lw_g (lw_at lw_m5 28 rfl) rfl
theorem q1101 : (Jvm.Cond.instanceMethod ({ cls := "java/util/LinkedList", name := "node", desc := "(I)Ljava/util/LinkedList$Node;" } : Jvm.MethodName)) ∈ lw_all := lw_g (lw_at lw_m5 33 rfl) rfl
theorem q1102 : (Jvm.Cond.selects "java/util/LinkedList" ({ cls := "java/util/LinkedList", name := "node", desc := "(I)Ljava/util/LinkedList$Node;" } : Jvm.MethodName) ({ cls := "java/util/LinkedList", name := "node", desc := "(I)Ljava/util/LinkedList$Node;" } : Jvm.MethodName)) ∈ lw_all := lw_g (lw_at lw_m5 34 rfl) rfl
theorem q1103 : (Jvm.Cond.code ({ cls := "java/util/LinkedList", name := "node", desc := "(I)Ljava/util/LinkedList$Node;" } : Jvm.MethodName) prog_54_method_31_code (4 : Nat) (Option.some (Jvm.ClassFile.FieldType.object "java/util/LinkedList$Node"))) ∈ lw_all := lw_g (lw_at lw_m5 35 rfl) rfl
theorem q1135 : (Jvm.Cond.selects "java/util/LinkedList" ({ cls := "java/util/AbstractList", name := "size", desc := "()I" } : Jvm.MethodName) ({ cls := "java/util/LinkedList", name := "size", desc := "()I" } : Jvm.MethodName)) ∈ lw_all := lw_g (lw_at lw_m5 67 rfl) rfl
theorem q1197 : (Jvm.Cond.selects "java/util/LinkedList" ({ cls := "java/util/AbstractList", name := "get", desc := "(I)Ljava/lang/Object;" } : Jvm.MethodName) ({ cls := "java/util/LinkedList", name := "get", desc := "(I)Ljava/lang/Object;" } : Jvm.MethodName)) ∈ lw_all := lw_g (lw_at lw_m5 129 rfl) rfl
theorem q1198 : (Jvm.Cond.instanceMethod ({ cls := "java/util/LinkedList", name := "get", desc := "(I)Ljava/lang/Object;" } : Jvm.MethodName)) ∈ lw_all := lw_g (lw_at lw_m5 130 rfl) rfl
theorem q1199 : (Jvm.Cond.code ({ cls := "java/util/LinkedList", name := "get", desc := "(I)Ljava/lang/Object;" } : Jvm.MethodName) prog_54_method_22_code (2 : Nat) (Option.some (Jvm.ClassFile.FieldType.object "java/lang/Object"))) ∈ lw_all := lw_g (lw_at lw_m5 131 rfl) rfl
theorem q1200 : (Jvm.Cond.methodLink "java/util/LinkedList" (90 : Nat) ({ cls := "java/util/LinkedList", name := "checkElementIndex", desc := "(I)V" } : Jvm.MethodName)) ∈ lw_all := lw_g (lw_at lw_m5 132 rfl) rfl
theorem q1201 : (Jvm.Cond.privateMethod ({ cls := "java/util/LinkedList", name := "checkElementIndex", desc := "(I)V" } : Jvm.MethodName)) ∈ lw_tbl := lw_at lw_m5 133 rfl
theorem q1202 : (Jvm.Cond.instanceMethod ({ cls := "java/util/LinkedList", name := "checkElementIndex", desc := "(I)V" } : Jvm.MethodName)) ∈ lw_all := lw_g (lw_at lw_m5 134 rfl) rfl
theorem q1203 : (Jvm.Cond.code ({ cls := "java/util/LinkedList", name := "checkElementIndex", desc := "(I)V" } : Jvm.MethodName) prog_54_method_29_code (2 : Nat) (Option.none : Option Jvm.ClassFile.FieldType)) ∈ lw_all := lw_g (lw_at lw_m5 135 rfl) rfl
theorem q1204 : (Jvm.Cond.methodLink "java/util/LinkedList" (115 : Nat) ({ cls := "java/util/LinkedList", name := "isElementIndex", desc := "(I)Z" } : Jvm.MethodName)) ∈ lw_all := lw_g (lw_at lw_m5 136 rfl) rfl
theorem q1205 : (Jvm.Cond.privateMethod ({ cls := "java/util/LinkedList", name := "isElementIndex", desc := "(I)Z" } : Jvm.MethodName)) ∈ lw_tbl := lw_at lw_m5 137 rfl
theorem q1206 : (Jvm.Cond.instanceMethod ({ cls := "java/util/LinkedList", name := "isElementIndex", desc := "(I)Z" } : Jvm.MethodName)) ∈ lw_all := lw_g (lw_at lw_m5 138 rfl) rfl
theorem q1207 : (Jvm.Cond.code ({ cls := "java/util/LinkedList", name := "isElementIndex", desc := "(I)Z" } : Jvm.MethodName) prog_54_method_26_code (2 : Nat) (Option.some Jvm.ClassFile.FieldType.boolean)) ∈ lw_all := lw_g (lw_at lw_m5 139 rfl) rfl
theorem q1208 : (Jvm.Cond.methodLink "java/util/LinkedList" (86 : Nat) ({ cls := "java/util/LinkedList", name := "node", desc := "(I)Ljava/util/LinkedList$Node;" } : Jvm.MethodName)) ∈ lw_all := lw_g (lw_at lw_m5 140 rfl) rfl
theorem q1353 : (Jvm.Cond.selects "java/util/LinkedList" ({ cls := "java/util/List", name := "get", desc := "(I)Ljava/lang/Object;" } : Jvm.MethodName) ({ cls := "java/util/LinkedList", name := "get", desc := "(I)Ljava/lang/Object;" } : Jvm.MethodName)) ∈ lw_all := lw_g (lw_at lw_m6 45 rfl) rfl
theorem q1354 : (Jvm.Cond.unhidden "java/util/LinkedList" "get" "(I)Ljava/lang/Object;") ∈ lw_tbl := lw_at lw_m6 46 rfl
theorem q1355 : (Jvm.Cond.publicMethod ({ cls := "java/util/LinkedList", name := "get", desc := "(I)Ljava/lang/Object;" } : Jvm.MethodName)) ∈ lw_tbl := lw_at lw_m6 47 rfl
theorem q1465 : (Jvm.Cond.sameMethod "java/util/LinkedList" "java/util/AbstractSequentialList" "iterator" "()Ljava/util/Iterator;") ∈ lw_all := lw_g (lw_at lw_m6 157 rfl) rfl
theorem q1467 : (Jvm.Cond.selects "java/util/LinkedList" ({ cls := "java/util/LinkedList", name := "iterator", desc := "()Ljava/util/Iterator;" } : Jvm.MethodName) ({ cls := "java/util/AbstractSequentialList", name := "iterator", desc := "()Ljava/util/Iterator;" } : Jvm.MethodName)) ∈ lw_all := lw_g (lw_at lw_m6 159 rfl) rfl
theorem q1560 : (Jvm.Cond.selects "java/util/LinkedList" ({ cls := "java/util/List", name := "add", desc := "(Ljava/lang/Object;)Z" } : Jvm.MethodName) ({ cls := "java/util/LinkedList", name := "add", desc := "(Ljava/lang/Object;)Z" } : Jvm.MethodName)) ∈ lw_all := lw_g (lw_at lw_m7 12 rfl) rfl
theorem q1561 : (Jvm.Cond.unhidden "java/util/LinkedList" "add" "(Ljava/lang/Object;)Z") ∈ lw_tbl := lw_at lw_m7 13 rfl
theorem q1562 : (Jvm.Cond.instanceMethod ({ cls := "java/util/LinkedList", name := "add", desc := "(Ljava/lang/Object;)Z" } : Jvm.MethodName)) ∈ lw_all := lw_g (lw_at lw_m7 14 rfl) rfl
theorem q1563 : (Jvm.Cond.publicMethod ({ cls := "java/util/LinkedList", name := "add", desc := "(Ljava/lang/Object;)Z" } : Jvm.MethodName)) ∈ lw_tbl := lw_at lw_m7 15 rfl
theorem q1564 : (Jvm.Cond.code ({ cls := "java/util/LinkedList", name := "add", desc := "(Ljava/lang/Object;)Z" } : Jvm.MethodName) prog_54_method_17_code (2 : Nat) (Option.some Jvm.ClassFile.FieldType.boolean)) ∈ lw_all := lw_g (lw_at lw_m7 16 rfl) rfl
theorem q1565 : (Jvm.Cond.methodLink "java/util/LinkedList" (57 : Nat) ({ cls := "java/util/LinkedList", name := "linkLast", desc := "(Ljava/lang/Object;)V" } : Jvm.MethodName)) ∈ lw_all := lw_g (lw_at lw_m7 17 rfl) rfl
theorem q1566 : (Jvm.Cond.instanceMethod ({ cls := "java/util/LinkedList", name := "linkLast", desc := "(Ljava/lang/Object;)V" } : Jvm.MethodName)) ∈ lw_all := lw_g (lw_at lw_m7 18 rfl) rfl
theorem q1567 : (Jvm.Cond.selects "java/util/LinkedList" ({ cls := "java/util/LinkedList", name := "linkLast", desc := "(Ljava/lang/Object;)V" } : Jvm.MethodName) ({ cls := "java/util/LinkedList", name := "linkLast", desc := "(Ljava/lang/Object;)V" } : Jvm.MethodName)) ∈ lw_all := lw_g (lw_at lw_m7 19 rfl) rfl
theorem q1568 : (Jvm.Cond.code ({ cls := "java/util/LinkedList", name := "linkLast", desc := "(Ljava/lang/Object;)V" } : Jvm.MethodName) prog_54_method_4_code (4 : Nat) (Option.none : Option Jvm.ClassFile.FieldType)) ∈ lw_all := lw_g (lw_at lw_m7 20 rfl) rfl
theorem q1569 : (Jvm.Cond.classLink "java/util/LinkedList" (22 : Nat) "java/util/LinkedList$Node") ∈ lw_all := lw_g (lw_at lw_m7 21 rfl) rfl
theorem q1571 : (Jvm.Cond.methodLink "java/util/LinkedList" (24 : Nat) ({ cls := "java/util/LinkedList$Node", name := "<init>", desc := "(Ljava/util/LinkedList$Node;Ljava/lang/Object;Ljava/util/LinkedList$Node;)V" } : Jvm.MethodName)) ∈ lw_all := lw_g (lw_at lw_m7 23 rfl) rfl
theorem q1577 : (Jvm.Cond.fieldLink "java/util/LinkedList" (39 : Nat) "java/util/LinkedList$Node" "item" "Ljava/lang/Object;") ∈ lw_all := lw_g (lw_at lw_m7 29 rfl) rfl
theorem q1580 : (Jvm.Cond.fieldLink "java/util/LinkedList" (36 : Nat) "java/util/LinkedList$Node" "next" "Ljava/util/LinkedList$Node;") ∈ lw_all := lw_g (lw_at lw_m7 32 rfl) rfl
theorem q1583 : (Jvm.Cond.fieldLink "java/util/LinkedList" (30 : Nat) "java/util/LinkedList$Node" "prev" "Ljava/util/LinkedList$Node;") ∈ lw_all := lw_g (lw_at lw_m7 35 rfl) rfl
theorem q1686 : (Jvm.Cond.selects "java/util/LinkedList" ({ cls := "java/util/AbstractList", name := "remove", desc := "(I)Ljava/lang/Object;" } : Jvm.MethodName) ({ cls := "java/util/LinkedList", name := "remove", desc := "(I)Ljava/lang/Object;" } : Jvm.MethodName)) ∈ lw_all := lw_g (lw_at lw_m7 138 rfl) rfl
theorem q1687 : (Jvm.Cond.instanceMethod ({ cls := "java/util/LinkedList", name := "remove", desc := "(I)Ljava/lang/Object;" } : Jvm.MethodName)) ∈ lw_all := lw_g (lw_at lw_m7 139 rfl) rfl
theorem q1688 : (Jvm.Cond.code ({ cls := "java/util/LinkedList", name := "remove", desc := "(I)Ljava/lang/Object;" } : Jvm.MethodName) prog_54_method_25_code (2 : Nat) (Option.some (Jvm.ClassFile.FieldType.object "java/lang/Object"))) ∈ lw_all := lw_g (lw_at lw_m7 140 rfl) rfl
theorem q1689 : (Jvm.Cond.methodLink "java/util/LinkedList" (64 : Nat) ({ cls := "java/util/LinkedList", name := "unlink", desc := "(Ljava/util/LinkedList$Node;)Ljava/lang/Object;" } : Jvm.MethodName)) ∈ lw_all := lw_g (lw_at lw_m7 141 rfl) rfl
theorem q1690 : (Jvm.Cond.instanceMethod ({ cls := "java/util/LinkedList", name := "unlink", desc := "(Ljava/util/LinkedList$Node;)Ljava/lang/Object;" } : Jvm.MethodName)) ∈ lw_all := lw_g (lw_at lw_m7 142 rfl) rfl
theorem q1691 : (Jvm.Cond.selects "java/util/LinkedList" ({ cls := "java/util/LinkedList", name := "unlink", desc := "(Ljava/util/LinkedList$Node;)Ljava/lang/Object;" } : Jvm.MethodName) ({ cls := "java/util/LinkedList", name := "unlink", desc := "(Ljava/util/LinkedList$Node;)Ljava/lang/Object;" } : Jvm.MethodName)) ∈ lw_all := lw_g (lw_at lw_m7 143 rfl) rfl
theorem q1692 : (Jvm.Cond.code ({ cls := "java/util/LinkedList", name := "unlink", desc := "(Ljava/util/LinkedList$Node;)Ljava/lang/Object;" } : Jvm.MethodName) prog_54_method_8_code (5 : Nat) (Option.some (Jvm.ClassFile.FieldType.object "java/lang/Object"))) ∈ lw_all := lw_g (lw_at lw_m7 144 rfl) rfl
theorem q1814 : (Jvm.Cond.instanceMethod ({ cls := "java/util/LinkedList", name := "descendingIterator", desc := "()Ljava/util/Iterator;" } : Jvm.MethodName)) ∈ lw_all := lw_g (lw_at lw_m8 26 rfl) rfl
theorem q1815 : (Jvm.Cond.selects "java/util/LinkedList" ({ cls := "java/util/LinkedList", name := "descendingIterator", desc := "()Ljava/util/Iterator;" } : Jvm.MethodName) ({ cls := "java/util/LinkedList", name := "descendingIterator", desc := "()Ljava/util/Iterator;" } : Jvm.MethodName)) ∈ lw_all := lw_g (lw_at lw_m8 27 rfl) rfl
theorem q1816 : (Jvm.Cond.code ({ cls := "java/util/LinkedList", name := "descendingIterator", desc := "()Ljava/util/Iterator;" } : Jvm.MethodName) prog_54_method_50_code (1 : Nat) (Option.some (Jvm.ClassFile.FieldType.object "java/util/Iterator"))) ∈ lw_all := lw_g (lw_at lw_m8 28 rfl) rfl
theorem q1817 : (Jvm.Cond.classLink "java/util/LinkedList" (155 : Nat) "java/util/LinkedList$DescendingIterator") ∈ lw_all := lw_g (lw_at lw_m8 29 rfl) rfl
theorem q1819 : (Jvm.Cond.methodLinkNest "java/util/LinkedList" (157 : Nat) ({ cls := "java/util/LinkedList$DescendingIterator", name := "<init>", desc := "(Ljava/util/LinkedList;)V" } : Jvm.MethodName) "java/util/LinkedList") ∈ lw_tbl := lw_at lw_m8 31 rfl
theorem q1882 : (Jvm.Cond.sameMethod "java/util/LinkedList" "java/util/AbstractCollection" "isEmpty" "()Z") ∈ lw_all := lw_g (lw_at lw_m8 94 rfl) rfl
theorem q1884 : (Jvm.Cond.selects "java/util/LinkedList" ({ cls := "java/util/LinkedList", name := "isEmpty", desc := "()Z" } : Jvm.MethodName) ({ cls := "java/util/AbstractCollection", name := "isEmpty", desc := "()Z" } : Jvm.MethodName)) ∈ lw_all := lw_g (lw_at lw_m8 96 rfl) rfl
theorem q1889 : (Jvm.Cond.instanceMethod ({ cls := "java/util/LinkedList", name := "getFirst", desc := "()Ljava/lang/Object;" } : Jvm.MethodName)) ∈ lw_all := lw_g (lw_at lw_m8 101 rfl) rfl
theorem q1890 : (Jvm.Cond.selects "java/util/LinkedList" ({ cls := "java/util/LinkedList", name := "getFirst", desc := "()Ljava/lang/Object;" } : Jvm.MethodName) ({ cls := "java/util/LinkedList", name := "getFirst", desc := "()Ljava/lang/Object;" } : Jvm.MethodName)) ∈ lw_all := lw_g (lw_at lw_m8 102 rfl) rfl
theorem q1891 : (Jvm.Cond.code ({ cls := "java/util/LinkedList", name := "getFirst", desc := "()Ljava/lang/Object;" } : Jvm.MethodName) prog_54_method_9_code (2 : Nat) (Option.some (Jvm.ClassFile.FieldType.object "java/lang/Object"))) ∈ lw_all := lw_g (lw_at lw_m8 103 rfl) rfl
theorem q1892 : (Jvm.Cond.classLink "java/util/LinkedList" (43 : Nat) "java/util/NoSuchElementException") ∈ lw_all := lw_g (lw_at lw_m8 104 rfl) rfl
theorem q1893 : (Jvm.Cond.methodLink "java/util/LinkedList" (45 : Nat) ({ cls := "java/util/NoSuchElementException", name := "<init>", desc := "()V" } : Jvm.MethodName)) ∈ lw_all := lw_g (lw_at lw_m8 105 rfl) rfl
theorem q1974 : (Jvm.Cond.instanceMethod ({ cls := "java/util/LinkedList", name := "removeFirst", desc := "()Ljava/lang/Object;" } : Jvm.MethodName)) ∈ lw_all := lw_g (lw_at lw_m8 186 rfl) rfl
theorem q1975 : (Jvm.Cond.selects "java/util/LinkedList" ({ cls := "java/util/LinkedList", name := "removeFirst", desc := "()Ljava/lang/Object;" } : Jvm.MethodName) ({ cls := "java/util/LinkedList", name := "removeFirst", desc := "()Ljava/lang/Object;" } : Jvm.MethodName)) ∈ lw_all := lw_g (lw_at lw_m8 187 rfl) rfl
theorem q1976 : (Jvm.Cond.code ({ cls := "java/util/LinkedList", name := "removeFirst", desc := "()Ljava/lang/Object;" } : Jvm.MethodName) prog_54_method_11_code (2 : Nat) (Option.some (Jvm.ClassFile.FieldType.object "java/lang/Object"))) ∈ lw_all := lw_g (lw_at lw_m8 188 rfl) rfl
theorem q1977 : (Jvm.Cond.methodLink "java/util/LinkedList" (46 : Nat) ({ cls := "java/util/LinkedList", name := "unlinkFirst", desc := "(Ljava/util/LinkedList$Node;)Ljava/lang/Object;" } : Jvm.MethodName)) ∈ lw_all := lw_g (lw_at lw_m8 189 rfl) rfl
theorem q1978 : (Jvm.Cond.privateMethod ({ cls := "java/util/LinkedList", name := "unlinkFirst", desc := "(Ljava/util/LinkedList$Node;)Ljava/lang/Object;" } : Jvm.MethodName)) ∈ lw_tbl := lw_at lw_m8 190 rfl
theorem q1979 : (Jvm.Cond.instanceMethod ({ cls := "java/util/LinkedList", name := "unlinkFirst", desc := "(Ljava/util/LinkedList$Node;)Ljava/lang/Object;" } : Jvm.MethodName)) ∈ lw_all := lw_g (lw_at lw_m8 191 rfl) rfl
theorem q1980 : (Jvm.Cond.code ({ cls := "java/util/LinkedList", name := "unlinkFirst", desc := "(Ljava/util/LinkedList$Node;)Ljava/lang/Object;" } : Jvm.MethodName) prog_54_method_6_code (4 : Nat) (Option.some (Jvm.ClassFile.FieldType.object "java/lang/Object"))) ∈ lw_all := lw_g (lw_at lw_m8 192 rfl) rfl
theorem q2097 : (Jvm.Cond.instanceMethod ({ cls := "java/util/LinkedList", name := "addLast", desc := "(Ljava/lang/Object;)V" } : Jvm.MethodName)) ∈ lw_all := lw_g (lw_at lw_m9 69 rfl) rfl
theorem q2098 : (Jvm.Cond.selects "java/util/LinkedList" ({ cls := "java/util/LinkedList", name := "addLast", desc := "(Ljava/lang/Object;)V" } : Jvm.MethodName) ({ cls := "java/util/LinkedList", name := "addLast", desc := "(Ljava/lang/Object;)V" } : Jvm.MethodName)) ∈ lw_all := lw_g (lw_at lw_m9 70 rfl) rfl
theorem q2099 : (Jvm.Cond.code ({ cls := "java/util/LinkedList", name := "addLast", desc := "(Ljava/lang/Object;)V" } : Jvm.MethodName) prog_54_method_14_code (2 : Nat) (Option.none : Option Jvm.ClassFile.FieldType)) ∈ lw_all := lw_g (lw_at lw_m9 71 rfl) rfl
theorem q3106 : (Jvm.Cond.selects "java/util/LinkedList" ({ cls := "java/util/LinkedList", name := "size", desc := "()I" } : Jvm.MethodName) ({ cls := "java/util/LinkedList", name := "size", desc := "()I" } : Jvm.MethodName)) ∈ lw_all := lw_g (lw_at lw_m13 118 rfl) rfl
theorem q3112 : (Jvm.Cond.selects "java/util/LinkedList" ({ cls := "java/util/AbstractCollection", name := "size", desc := "()I" } : Jvm.MethodName) ({ cls := "java/util/LinkedList", name := "size", desc := "()I" } : Jvm.MethodName)) ∈ lw_all := lw_g (lw_at lw_m13 124 rfl) rfl
theorem q3113 : (Jvm.Cond.selects "java/util/LinkedList" ({ cls := "java/util/LinkedList", name := "get", desc := "(I)Ljava/lang/Object;" } : Jvm.MethodName) ({ cls := "java/util/LinkedList", name := "get", desc := "(I)Ljava/lang/Object;" } : Jvm.MethodName)) ∈ lw_all := lw_g (lw_at lw_m13 125 rfl) rfl
theorem q3122 : (Jvm.Cond.castable "java/util/LinkedList" "java/lang/Object") ∈ lw_tbl := lw_at lw_m13 134 rfl
theorem in_J6 : ∀ w ∈ wsJ60, w ∈ lw_all := lw_in wsJ60 [287, 281, 283, 285] (by decide +kernel) (by decide +kernel)

theorem q118 : (Jvm.Cond.initialized "java/lang/String") ∈ lw_all := lw_g (lw_at lw_m1 10 rfl) rfl
theorem q291 : (Jvm.Cond.instanceMethod ({ cls := "java/lang/String", name := "length", desc := "()I" } : Jvm.MethodName)) ∈ lw_all := lw_g (lw_at lw_m1 183 rfl) rfl
theorem q292 : (Jvm.Cond.selects "java/lang/String" ({ cls := "java/lang/String", name := "length", desc := "()I" } : Jvm.MethodName) ({ cls := "java/lang/String", name := "length", desc := "()I" } : Jvm.MethodName)) ∈ lw_all := lw_g (lw_at lw_m1 184 rfl) rfl
theorem q293 : (Jvm.Cond.code ({ cls := "java/lang/String", name := "length", desc := "()I" } : Jvm.MethodName) prog_30_method_54_code (1 : Nat) (Option.some Jvm.ClassFile.FieldType.int)) ∈ lw_all := lw_g (lw_at lw_m1 185 rfl) rfl
theorem q294 : (Jvm.Cond.methodLink "java/lang/String" (335 : Nat) ({ cls := "java/lang/String", name := "coder", desc := "()B" } : Jvm.MethodName)) ∈ lw_all := lw_g (lw_at lw_m1 186 rfl) rfl
theorem q295 : (Jvm.Cond.instanceMethod ({ cls := "java/lang/String", name := "coder", desc := "()B" } : Jvm.MethodName)) ∈ lw_all := lw_g (lw_at lw_m1 187 rfl) rfl
theorem q296 : (Jvm.Cond.selects "java/lang/String" ({ cls := "java/lang/String", name := "coder", desc := "()B" } : Jvm.MethodName) ({ cls := "java/lang/String", name := "coder", desc := "()B" } : Jvm.MethodName)) ∈ lw_all := lw_g (lw_at lw_m1 188 rfl) rfl
theorem q297 : (Jvm.Cond.code ({ cls := "java/lang/String", name := "coder", desc := "()B" } : Jvm.MethodName) prog_30_method_152_code (1 : Nat) (Option.some Jvm.ClassFile.FieldType.byte)) ∈ lw_all := lw_g (lw_at lw_m1 189 rfl) rfl
theorem q298 : (Jvm.Cond.fieldLink "java/lang/String" (38 : Nat) "java/lang/String" "COMPACT_STRINGS" "Z") ∈ lw_all := lw_g (lw_at lw_m1 190 rfl) rfl
theorem q299 : (Jvm.Cond.laysStatic "java/lang/String" "COMPACT_STRINGS" "Z") ∈ lw_tbl := lw_at lw_m1 191 rfl
theorem q367 : (Jvm.Cond.fieldLink "java/lang/String" (1048 : Nat) "java/lang/AbstractStringBuilder" "maybeLatin1" "Z") ∈ lw_all := lw_g (lw_at lw_m2 19 rfl) rfl
theorem q441 : (Jvm.Cond.static ({ cls := "java/lang/String", name := "checkBoundsBeginEnd", desc := "(III)V" } : Jvm.MethodName)) ∈ lw_all := lw_g (lw_at lw_m2 93 rfl) rfl
theorem q442 : (Jvm.Cond.code ({ cls := "java/lang/String", name := "checkBoundsBeginEnd", desc := "(III)V" } : Jvm.MethodName) prog_30_method_158_code (3 : Nat) (Option.none : Option Jvm.ClassFile.FieldType)) ∈ lw_all := lw_g (lw_at lw_m2 94 rfl) rfl
theorem q443 : (Jvm.Cond.fieldLink "java/lang/String" (1053 : Nat) "jdk/internal/util/Preconditions" "SIOOBE_FORMATTER" "Ljava/util/function/BiFunction;") ∈ lw_all := lw_g (lw_at lw_m2 95 rfl) rfl
theorem q445 : (Jvm.Cond.methodLink "java/lang/String" (1062 : Nat) ({ cls := "jdk/internal/util/Preconditions", name := "checkFromToIndex", desc := "(IIILjava/util/function/BiFunction;)I" } : Jvm.MethodName)) ∈ lw_all := lw_g (lw_at lw_m2 97 rfl) rfl
theorem q481 : (Jvm.Cond.static ({ cls := "java/lang/String", name := "checkBoundsOffCount", desc := "(III)I" } : Jvm.MethodName)) ∈ lw_all := lw_g (lw_at lw_m2 133 rfl) rfl
theorem q482 : (Jvm.Cond.code ({ cls := "java/lang/String", name := "checkBoundsOffCount", desc := "(III)I" } : Jvm.MethodName) prog_30_method_157_code (3 : Nat) (Option.some Jvm.ClassFile.FieldType.int)) ∈ lw_all := lw_g (lw_at lw_m2 134 rfl) rfl
theorem q483 : (Jvm.Cond.methodLink "java/lang/String" (1065 : Nat) ({ cls := "jdk/internal/util/Preconditions", name := "checkFromIndexSize", desc := "(IIILjava/util/function/BiFunction;)I" } : Jvm.MethodName)) ∈ lw_all := lw_g (lw_at lw_m2 135 rfl) rfl
theorem q487 : (Jvm.Cond.instanceMethod ({ cls := "java/lang/String", name := "getBytes", desc := "([BIB)V" } : Jvm.MethodName)) ∈ lw_all := lw_g (lw_at lw_m2 139 rfl) rfl
theorem q488 : (Jvm.Cond.selects "java/lang/String" ({ cls := "java/lang/String", name := "getBytes", desc := "([BIB)V" } : Jvm.MethodName) ({ cls := "java/lang/String", name := "getBytes", desc := "([BIB)V" } : Jvm.MethodName)) ∈ lw_all := lw_g (lw_at lw_m2 140 rfl) rfl
theorem q489 : (Jvm.Cond.code ({ cls := "java/lang/String", name := "getBytes", desc := "([BIB)V" } : Jvm.MethodName) prog_30_method_147_code (4 : Nat) (Option.none : Option Jvm.ClassFile.FieldType)) ∈ lw_all := lw_g (lw_at lw_m2 141 rfl) rfl
theorem q490 : (Jvm.Cond.methodLink "java/lang/String" (212 : Nat) ({ cls := "java/lang/System", name := "arraycopy", desc := "(Ljava/lang/Object;ILjava/lang/Object;II)V" } : Jvm.MethodName)) ∈ lw_all := lw_g (lw_at lw_m2 142 rfl) rfl
theorem q491 : (Jvm.Cond.methodLink "java/lang/String" (106 : Nat) ({ cls := "java/lang/StringLatin1", name := "inflate", desc := "([BI[BII)V" } : Jvm.MethodName)) ∈ lw_all := lw_g (lw_at lw_m2 143 rfl) rfl
theorem q522 : (Jvm.Cond.instantiable "java/lang/String" (4 : Nat)) ∈ lw_all := lw_g (lw_at lw_m2 174 rfl) rfl
theorem q524 : (Jvm.Cond.instanceMethod ({ cls := "java/lang/String", name := "<init>", desc := "(Ljava/lang/StringBuilder;)V" } : Jvm.MethodName)) ∈ lw_all := lw_g (lw_at lw_m2 176 rfl) rfl
theorem q525 : (Jvm.Cond.code ({ cls := "java/lang/String", name := "<init>", desc := "(Ljava/lang/StringBuilder;)V" } : Jvm.MethodName) prog_30_method_53_code (2 : Nat) (Option.none : Option Jvm.ClassFile.FieldType)) ∈ lw_all := lw_g (lw_at lw_m2 177 rfl) rfl
theorem q526 : (Jvm.Cond.methodLink "java/lang/String" (489 : Nat) ({ cls := "java/lang/String", name := "<init>", desc := "(Ljava/lang/AbstractStringBuilder;Ljava/lang/Void;)V" } : Jvm.MethodName)) ∈ lw_all := lw_g (lw_at lw_m2 178 rfl) rfl
theorem q527 : (Jvm.Cond.instanceMethod ({ cls := "java/lang/String", name := "<init>", desc := "(Ljava/lang/AbstractStringBuilder;Ljava/lang/Void;)V" } : Jvm.MethodName)) ∈ lw_all := lw_g (lw_at lw_m2 179 rfl) rfl
theorem q528 : (Jvm.Cond.code ({ cls := "java/lang/String", name := "<init>", desc := "(Ljava/lang/AbstractStringBuilder;Ljava/lang/Void;)V" } : Jvm.MethodName) prog_30_method_150_code (5 : Nat) (Option.none : Option Jvm.ClassFile.FieldType)) ∈ lw_all := lw_g (lw_at lw_m2 180 rfl) rfl
theorem q529 : (Jvm.Cond.methodLink "java/lang/String" (1 : Nat) ({ cls := "java/lang/Object", name := "<init>", desc := "()V" } : Jvm.MethodName)) ∈ lw_all := lw_g (lw_at lw_m2 181 rfl) rfl
theorem q530 : (Jvm.Cond.methodLink "java/lang/String" (552 : Nat) ({ cls := "java/lang/AbstractStringBuilder", name := "getValue", desc := "()[B" } : Jvm.MethodName)) ∈ lw_all := lw_g (lw_at lw_m2 182 rfl) rfl
theorem q535 : (Jvm.Cond.methodLink "java/lang/String" (549 : Nat) ({ cls := "java/lang/AbstractStringBuilder", name := "length", desc := "()I" } : Jvm.MethodName)) ∈ lw_all := lw_g (lw_at lw_m2 187 rfl) rfl
theorem q543 : (Jvm.Cond.methodLink "java/lang/String" (1047 : Nat) ({ cls := "java/lang/AbstractStringBuilder", name := "isLatin1", desc := "()Z" } : Jvm.MethodName)) ∈ lw_all := lw_g (lw_at lw_m2 195 rfl) rfl
theorem q544 : (Jvm.Cond.methodLink "java/lang/String" (54 : Nat) ({ cls := "java/util/Arrays", name := "copyOfRange", desc := "([BII)[B" } : Jvm.MethodName)) ∈ lw_all := lw_g (lw_at lw_m2 196 rfl) rfl
theorem q593 : (Jvm.Cond.methodLink "java/lang/String" (1051 : Nat) ({ cls := "java/lang/StringUTF16", name := "compress", desc := "([BII)[B" } : Jvm.MethodName)) ∈ lw_all := lw_g (lw_at lw_m3 5 rfl) rfl
theorem q603 : (Jvm.Cond.methodLink "java/lang/String" (47 : Nat) ({ cls := "java/lang/StringUTF16", name := "coderFromArrayLen", desc := "([BI)B" } : Jvm.MethodName)) ∈ lw_all := lw_g (lw_at lw_m3 15 rfl) rfl
theorem q606 : (Jvm.Cond.fieldLink "java/lang/String" (9 : Nat) "java/lang/String" "value" "[B") ∈ lw_all := lw_g (lw_at lw_m3 18 rfl) rfl
theorem q607 : (Jvm.Cond.fieldLink "java/lang/String" (15 : Nat) "java/lang/String" "coder" "B") ∈ lw_all := lw_g (lw_at lw_m3 19 rfl) rfl
theorem q608 : (Jvm.Cond.laysFinal "java/lang/String" "java/lang/String" "value" "[B") ∈ lw_all := lw_g (lw_at lw_m3 20 rfl) rfl
theorem q609 : (Jvm.Cond.soleField "java/lang/String" "value") ∈ lw_all := lw_g (lw_at lw_m3 21 rfl) rfl
theorem q610 : (Jvm.Cond.laysFinal "java/lang/String" "java/lang/String" "coder" "B") ∈ lw_all := lw_g (lw_at lw_m3 22 rfl) rfl
theorem q611 : (Jvm.Cond.soleField "java/lang/String" "coder") ∈ lw_all := lw_g (lw_at lw_m3 23 rfl) rfl
theorem q612 : (Jvm.Cond.lays "java/lang/String" "java/lang/String" "hash" "I") ∈ lw_all := lw_g (lw_at lw_m3 24 rfl) rfl
theorem q613 : (Jvm.Cond.soleField "java/lang/String" "hash") ∈ lw_all := lw_g (lw_at lw_m3 25 rfl) rfl
theorem q614 : (Jvm.Cond.lays "java/lang/String" "java/lang/String" "hashIsZero" "Z") ∈ lw_all := lw_g (lw_at lw_m3 26 rfl) rfl
theorem q615 : (Jvm.Cond.soleField "java/lang/String" "hashIsZero") ∈ lw_all := lw_g (lw_at lw_m3 27 rfl) rfl
theorem q616 : (Jvm.Cond.superclass "java/lang/String" "java/lang/Object") ∈ lw_all := lw_g (lw_at lw_m3 28 rfl) rfl
theorem q730 : (Jvm.Cond.selects "java/lang/String" ({ cls := "java/lang/Object", name := "getClass", desc := "()Ljava/lang/Class;" } : Jvm.MethodName) ({ cls := "java/lang/Object", name := "getClass", desc := "()Ljava/lang/Class;" } : Jvm.MethodName)) ∈ lw_all := lw_g (lw_at lw_m3 142 rfl) rfl
theorem q1900 : (Jvm.Cond.instanceMethod ({ cls := "java/lang/String", name := "indexOf", desc := "(I)I" } : Jvm.MethodName)) ∈ lw_all := lw_g (lw_at lw_m8 112 rfl) rfl
theorem q1901 : (Jvm.Cond.selects "java/lang/String" ({ cls := "java/lang/String", name := "indexOf", desc := "(I)I" } : Jvm.MethodName) ({ cls := "java/lang/String", name := "indexOf", desc := "(I)I" } : Jvm.MethodName)) ∈ lw_all := lw_g (lw_at lw_m8 113 rfl) rfl
theorem q1902 : (Jvm.Cond.code ({ cls := "java/lang/String", name := "indexOf", desc := "(I)I" } : Jvm.MethodName) prog_30_method_79_code (2 : Nat) (Option.some Jvm.ClassFile.FieldType.int)) ∈ lw_all := lw_g (lw_at lw_m8 114 rfl) rfl
theorem q1903 : (Jvm.Cond.methodLink "java/lang/String" (633 : Nat) ({ cls := "java/lang/String", name := "indexOf", desc := "(II)I" } : Jvm.MethodName)) ∈ lw_all := lw_g (lw_at lw_m8 115 rfl) rfl
theorem q1904 : (Jvm.Cond.instanceMethod ({ cls := "java/lang/String", name := "indexOf", desc := "(II)I" } : Jvm.MethodName)) ∈ lw_all := lw_g (lw_at lw_m8 116 rfl) rfl
theorem q1905 : (Jvm.Cond.selects "java/lang/String" ({ cls := "java/lang/String", name := "indexOf", desc := "(II)I" } : Jvm.MethodName) ({ cls := "java/lang/String", name := "indexOf", desc := "(II)I" } : Jvm.MethodName)) ∈ lw_all := lw_g (lw_at lw_m8 117 rfl) rfl
theorem q1906 : (Jvm.Cond.code ({ cls := "java/lang/String", name := "indexOf", desc := "(II)I" } : Jvm.MethodName) prog_30_method_80_code (3 : Nat) (Option.some Jvm.ClassFile.FieldType.int)) ∈ lw_all := lw_g (lw_at lw_m8 118 rfl) rfl
theorem q1907 : (Jvm.Cond.methodLink "java/lang/String" (492 : Nat) ({ cls := "java/lang/String", name := "isLatin1", desc := "()Z" } : Jvm.MethodName)) ∈ lw_all := lw_g (lw_at lw_m8 119 rfl) rfl
theorem q1908 : (Jvm.Cond.instanceMethod ({ cls := "java/lang/String", name := "isLatin1", desc := "()Z" } : Jvm.MethodName)) ∈ lw_all := lw_g (lw_at lw_m8 120 rfl) rfl
theorem q1909 : (Jvm.Cond.selects "java/lang/String" ({ cls := "java/lang/String", name := "isLatin1", desc := "()Z" } : Jvm.MethodName) ({ cls := "java/lang/String", name := "isLatin1", desc := "()Z" } : Jvm.MethodName)) ∈ lw_all := lw_g (lw_at lw_m8 121 rfl) rfl
theorem q1910 : (Jvm.Cond.code ({ cls := "java/lang/String", name := "isLatin1", desc := "()Z" } : Jvm.MethodName) prog_30_method_154_code (1 : Nat) (Option.some Jvm.ClassFile.FieldType.boolean)) ∈ lw_all := lw_g (lw_at lw_m8 122 rfl) rfl
theorem q1911 : (Jvm.Cond.methodLink "java/lang/String" (505 : Nat) ({ cls := "java/lang/String", name := "length", desc := "()I" } : Jvm.MethodName)) ∈ lw_all := lw_g (lw_at lw_m8 123 rfl) rfl
theorem q1912 : (Jvm.Cond.methodLink "java/lang/String" (637 : Nat) ({ cls := "java/lang/StringLatin1", name := "indexOf", desc := "([BIII)I" } : Jvm.MethodName)) ∈ lw_all := lw_g (lw_at lw_m8 124 rfl) rfl
theorem q1923 : (Jvm.Cond.methodLink "java/lang/String" (640 : Nat) ({ cls := "java/lang/StringUTF16", name := "indexOf", desc := "([BIII)I" } : Jvm.MethodName)) ∈ lw_all := lw_g (lw_at lw_m8 135 rfl) rfl
theorem q2420 : (Jvm.Cond.selects "java/lang/String" ({ cls := "java/lang/Object", name := "equals", desc := "(Ljava/lang/Object;)Z" } : Jvm.MethodName) ({ cls := "java/lang/String", name := "equals", desc := "(Ljava/lang/Object;)Z" } : Jvm.MethodName)) ∈ lw_all := lw_g (lw_at lw_m10 152 rfl) rfl
theorem q2421 : (Jvm.Cond.instanceMethod ({ cls := "java/lang/String", name := "equals", desc := "(Ljava/lang/Object;)Z" } : Jvm.MethodName)) ∈ lw_all := lw_g (lw_at lw_m10 153 rfl) rfl
theorem q2422 : (Jvm.Cond.code ({ cls := "java/lang/String", name := "equals", desc := "(Ljava/lang/Object;)Z" } : Jvm.MethodName) prog_30_method_66_code (3 : Nat) (Option.some Jvm.ClassFile.FieldType.boolean)) ∈ lw_all := lw_g (lw_at lw_m10 154 rfl) rfl
theorem q2423 : (Jvm.Cond.classLink "java/lang/String" (10 : Nat) "java/lang/String") ∈ lw_all := lw_g (lw_at lw_m10 155 rfl) rfl
theorem q2424 : (Jvm.Cond.methodLink "java/lang/String" (541 : Nat) ({ cls := "java/lang/StringLatin1", name := "equals", desc := "([B[B)Z" } : Jvm.MethodName)) ∈ lw_all := lw_g (lw_at lw_m10 156 rfl) rfl
theorem q3125 : (Jvm.Cond.castable "java/lang/String" "java/lang/Object") ∈ lw_tbl := lw_at lw_m13 137 rfl
theorem in_J7 : ∀ w ∈ wsJ70, w ∈ lw_all := lw_in wsJ70 [608, 610, 612, 614] (by decide +kernel) (by decide +kernel)

theorem q127 : (Jvm.Cond.initialized "java/lang/Math") ∈ lw_all := lw_g (lw_at lw_m1 19 rfl) rfl
theorem q403 : (Jvm.Cond.static ({ cls := "java/lang/Math", name := "max", desc := "(II)I" } : Jvm.MethodName)) ∈ lw_all := lw_g (lw_at lw_m2 55 rfl) rfl
theorem q404 : (Jvm.Cond.code ({ cls := "java/lang/Math", name := "max", desc := "(II)I" } : Jvm.MethodName) prog_27_method_65_code (2 : Nat) (Option.some Jvm.ClassFile.FieldType.int)) ∈ lw_all := lw_g (lw_at lw_m2 56 rfl) rfl
theorem q421 : (Jvm.Cond.static ({ cls := "java/lang/Math", name := "min", desc := "(II)I" } : Jvm.MethodName)) ∈ lw_all := lw_g (lw_at lw_m2 73 rfl) rfl
theorem q422 : (Jvm.Cond.code ({ cls := "java/lang/Math", name := "min", desc := "(II)I" } : Jvm.MethodName) prog_27_method_69_code (2 : Nat) (Option.some Jvm.ClassFile.FieldType.int)) ∈ lw_all := lw_g (lw_at lw_m2 74 rfl) rfl

theorem q128 : (Jvm.Cond.initialized "java/util/Arrays") ∈ lw_all := lw_g (lw_at lw_m1 20 rfl) rfl
theorem q411 : (Jvm.Cond.static ({ cls := "java/util/Arrays", name := "copyOf", desc := "([BI)[B" } : Jvm.MethodName)) ∈ lw_all := lw_g (lw_at lw_m2 63 rfl) rfl
theorem q412 : (Jvm.Cond.code ({ cls := "java/util/Arrays", name := "copyOf", desc := "([BI)[B" } : Jvm.MethodName) prog_48_method_121_code (3 : Nat) (Option.some (Jvm.ClassFile.FieldType.array Jvm.ClassFile.FieldType.byte))) ∈ lw_all := lw_g (lw_at lw_m2 64 rfl) rfl
theorem q413 : (Jvm.Cond.methodLink "java/util/Arrays" (310 : Nat) ({ cls := "[B", name := "clone", desc := "()Ljava/lang/Object;" } : Jvm.MethodName)) ∈ lw_all := lw_g (lw_at lw_m2 65 rfl) rfl
theorem q419 : (Jvm.Cond.classLink "java/util/Arrays" (311 : Nat) "[B") ∈ lw_all := lw_g (lw_at lw_m2 71 rfl) rfl
theorem q420 : (Jvm.Cond.methodLink "java/util/Arrays" (304 : Nat) ({ cls := "java/lang/Math", name := "min", desc := "(II)I" } : Jvm.MethodName)) ∈ lw_all := lw_g (lw_at lw_m2 72 rfl) rfl
theorem q423 : (Jvm.Cond.methodLink "java/util/Arrays" (150 : Nat) ({ cls := "java/lang/System", name := "arraycopy", desc := "(Ljava/lang/Object;ILjava/lang/Object;II)V" } : Jvm.MethodName)) ∈ lw_all := lw_g (lw_at lw_m2 75 rfl) rfl
theorem q545 : (Jvm.Cond.static ({ cls := "java/util/Arrays", name := "copyOfRange", desc := "([BII)[B" } : Jvm.MethodName)) ∈ lw_all := lw_g (lw_at lw_m2 197 rfl) rfl
theorem q546 : (Jvm.Cond.code ({ cls := "java/util/Arrays", name := "copyOfRange", desc := "([BII)[B" } : Jvm.MethodName) prog_48_method_132_code (3 : Nat) (Option.some (Jvm.ClassFile.FieldType.array Jvm.ClassFile.FieldType.byte))) ∈ lw_all := lw_g (lw_at lw_m2 198 rfl) rfl
theorem q547 : (Jvm.Cond.methodLink "java/util/Arrays" (339 : Nat) ({ cls := "java/util/Arrays", name := "copyOfRangeByte", desc := "([BII)[B" } : Jvm.MethodName)) ∈ lw_all := lw_g (lw_at lw_m2 199 rfl) rfl
theorem q548 : (Jvm.Cond.static ({ cls := "java/util/Arrays", name := "copyOfRangeByte", desc := "([BII)[B" } : Jvm.MethodName)) ∈ lw_all := lw_g (lw_at lw_m2 200 rfl) rfl
theorem q549 : (Jvm.Cond.code ({ cls := "java/util/Arrays", name := "copyOfRangeByte", desc := "([BII)[B" } : Jvm.MethodName) prog_48_method_133_code (5 : Nat) (Option.some (Jvm.ClassFile.FieldType.array Jvm.ClassFile.FieldType.byte))) ∈ lw_all := lw_g (lw_at lw_m2 201 rfl) rfl
theorem q550 : (Jvm.Cond.methodLink "java/util/Arrays" (343 : Nat) ({ cls := "java/util/Arrays", name := "checkLength", desc := "(II)V" } : Jvm.MethodName)) ∈ lw_all := lw_g (lw_at lw_m2 202 rfl) rfl
theorem q551 : (Jvm.Cond.static ({ cls := "java/util/Arrays", name := "checkLength", desc := "(II)V" } : Jvm.MethodName)) ∈ lw_all := lw_g (lw_at lw_m2 203 rfl) rfl
theorem q552 : (Jvm.Cond.code ({ cls := "java/util/Arrays", name := "checkLength", desc := "(II)V" } : Jvm.MethodName) prog_48_method_131_code (2 : Nat) (Option.none : Option Jvm.ClassFile.FieldType)) ∈ lw_all := lw_g (lw_at lw_m2 204 rfl) rfl
theorem q553 : (Jvm.Cond.classLink "java/util/Arrays" (43 : Nat) "java/lang/IllegalArgumentException") ∈ lw_all := lw_g (lw_at lw_m2 205 rfl) rfl
theorem q562 : (Jvm.Cond.classLink "java/util/Arrays" (45 : Nat) "java/lang/StringBuilder") ∈ lw_all := lw_g (lw_at lw_m2 214 rfl) rfl
theorem q563 : (Jvm.Cond.methodLink "java/util/Arrays" (47 : Nat) ({ cls := "java/lang/StringBuilder", name := "<init>", desc := "()V" } : Jvm.MethodName)) ∈ lw_all := lw_g (lw_at lw_m2 215 rfl) rfl
theorem q564 : (Jvm.Cond.methodLink "java/util/Arrays" (54 : Nat) ({ cls := "java/lang/StringBuilder", name := "append", desc := "(I)Ljava/lang/StringBuilder;" } : Jvm.MethodName)) ∈ lw_all := lw_g (lw_at lw_m2 216 rfl) rfl
theorem q565 : (Jvm.Cond.stringRef "java/util/Arrays" (337 : Nat) " > ") ∈ lw_tbl := lw_at lw_m2 217 rfl
theorem q566 : (Jvm.Cond.methodLink "java/util/Arrays" (50 : Nat) ({ cls := "java/lang/StringBuilder", name := "append", desc := "(Ljava/lang/String;)Ljava/lang/StringBuilder;" } : Jvm.MethodName)) ∈ lw_all := lw_g (lw_at lw_m2 218 rfl) rfl
theorem q567 : (Jvm.Cond.methodLink "java/util/Arrays" (61 : Nat) ({ cls := "java/lang/StringBuilder", name := "toString", desc := "()Ljava/lang/String;" } : Jvm.MethodName)) ∈ lw_all := lw_g (lw_at lw_m2 219 rfl) rfl
theorem q568 : (Jvm.Cond.methodLink "java/util/Arrays" (65 : Nat) ({ cls := "java/lang/IllegalArgumentException", name := "<init>", desc := "(Ljava/lang/String;)V" } : Jvm.MethodName)) ∈ lw_all := lw_g (lw_at lw_m2 220 rfl) rfl
theorem q633 : (Jvm.Cond.static ({ cls := "java/util/Arrays", name := "copyOf", desc := "([JI)[J" } : Jvm.MethodName)) ∈ lw_all := lw_g (lw_at lw_m3 45 rfl) rfl
theorem q634 : (Jvm.Cond.code ({ cls := "java/util/Arrays", name := "copyOf", desc := "([JI)[J" } : Jvm.MethodName) prog_48_method_124_code (3 : Nat) (Option.some (Jvm.ClassFile.FieldType.array Jvm.ClassFile.FieldType.long))) ∈ lw_all := lw_g (lw_at lw_m3 46 rfl) rfl
theorem q635 : (Jvm.Cond.methodLink "java/util/Arrays" (319 : Nat) ({ cls := "[J", name := "clone", desc := "()Ljava/lang/Object;" } : Jvm.MethodName)) ∈ lw_all := lw_g (lw_at lw_m3 47 rfl) rfl
theorem q639 : (Jvm.Cond.classLink "java/util/Arrays" (320 : Nat) "[J") ∈ lw_all := lw_g (lw_at lw_m3 51 rfl) rfl
theorem q711 : (Jvm.Cond.static ({ cls := "java/util/Arrays", name := "copyOf", desc := "([Ljava/lang/Object;I)[Ljava/lang/Object;" } : Jvm.MethodName)) ∈ lw_all := lw_g (lw_at lw_m3 123 rfl) rfl
theorem q712 : (Jvm.Cond.code ({ cls := "java/util/Arrays", name := "copyOf", desc := "([Ljava/lang/Object;I)[Ljava/lang/Object;" } : Jvm.MethodName) prog_48_method_119_code (2 : Nat) (Option.some (Jvm.ClassFile.FieldType.array (Jvm.ClassFile.FieldType.object "java/lang/Object")))) ∈ lw_all := lw_g (lw_at lw_m3 124 rfl) rfl
theorem q713 : (Jvm.Cond.methodLink "java/util/Arrays" (86 : Nat) ({ cls := "java/lang/Object", name := "getClass", desc := "()Ljava/lang/Class;" } : Jvm.MethodName)) ∈ lw_all := lw_g (lw_at lw_m3 125 rfl) rfl
theorem q746 : (Jvm.Cond.methodLink "java/util/Arrays" (300 : Nat) ({ cls := "java/util/Arrays", name := "copyOf", desc := "([Ljava/lang/Object;ILjava/lang/Class;)[Ljava/lang/Object;" } : Jvm.MethodName)) ∈ lw_all := lw_g (lw_at lw_m3 158 rfl) rfl
theorem q747 : (Jvm.Cond.static ({ cls := "java/util/Arrays", name := "copyOf", desc := "([Ljava/lang/Object;ILjava/lang/Class;)[Ljava/lang/Object;" } : Jvm.MethodName)) ∈ lw_all := lw_g (lw_at lw_m3 159 rfl) rfl
theorem q748 : (Jvm.Cond.code ({ cls := "java/util/Arrays", name := "copyOf", desc := "([Ljava/lang/Object;ILjava/lang/Class;)[Ljava/lang/Object;" } : Jvm.MethodName) prog_48_method_120_code (4 : Nat) (Option.some (Jvm.ClassFile.FieldType.array (Jvm.ClassFile.FieldType.object "java/lang/Object")))) ∈ lw_all := lw_g (lw_at lw_m3 160 rfl) rfl
theorem q749 : (Jvm.Cond.classLink "java/util/Arrays" (110 : Nat) "[Ljava/lang/Object;") ∈ lw_all := lw_g (lw_at lw_m3 161 rfl) rfl
theorem q750 : (Jvm.Cond.classLink "java/util/Arrays" (2 : Nat) "java/lang/Object") ∈ lw_all := lw_g (lw_at lw_m3 162 rfl) rfl

theorem q131 : (Jvm.Cond.initialized "java/lang/StringLatin1") ∈ lw_all := lw_g (lw_at lw_m1 23 rfl) rfl
theorem q472 : (Jvm.Cond.static ({ cls := "java/lang/StringLatin1", name := "inflate", desc := "([BI[BII)V" } : Jvm.MethodName)) ∈ lw_all := lw_g (lw_at lw_m2 124 rfl) rfl
theorem q473 : (Jvm.Cond.code ({ cls := "java/lang/StringLatin1", name := "inflate", desc := "([BI[BII)V" } : Jvm.MethodName) prog_32_method_50_code (5 : Nat) (Option.none : Option Jvm.ClassFile.FieldType)) ∈ lw_all := lw_g (lw_at lw_m2 125 rfl) rfl
theorem q474 : (Jvm.Cond.methodLink "java/lang/StringLatin1" (240 : Nat) ({ cls := "java/lang/StringUTF16", name := "inflate", desc := "([BI[BII)V" } : Jvm.MethodName)) ∈ lw_all := lw_g (lw_at lw_m2 126 rfl) rfl
theorem q1913 : (Jvm.Cond.static ({ cls := "java/lang/StringLatin1", name := "indexOf", desc := "([BIII)I" } : Jvm.MethodName)) ∈ lw_all := lw_g (lw_at lw_m8 125 rfl) rfl
theorem q1914 : (Jvm.Cond.code ({ cls := "java/lang/StringLatin1", name := "indexOf", desc := "([BIII)I" } : Jvm.MethodName) prog_32_method_22_code (4 : Nat) (Option.some Jvm.ClassFile.FieldType.int)) ∈ lw_all := lw_g (lw_at lw_m8 126 rfl) rfl
theorem q1915 : (Jvm.Cond.methodLink "java/lang/StringLatin1" (88 : Nat) ({ cls := "java/lang/StringLatin1", name := "canEncode", desc := "(I)Z" } : Jvm.MethodName)) ∈ lw_all := lw_g (lw_at lw_m8 127 rfl) rfl
theorem q1916 : (Jvm.Cond.static ({ cls := "java/lang/StringLatin1", name := "canEncode", desc := "(I)Z" } : Jvm.MethodName)) ∈ lw_all := lw_g (lw_at lw_m8 128 rfl) rfl
theorem q1917 : (Jvm.Cond.code ({ cls := "java/lang/StringLatin1", name := "canEncode", desc := "(I)Z" } : Jvm.MethodName) prog_32_method_4_code (1 : Nat) (Option.some Jvm.ClassFile.FieldType.boolean)) ∈ lw_all := lw_g (lw_at lw_m8 129 rfl) rfl
theorem q1918 : (Jvm.Cond.methodLink "java/lang/StringLatin1" (92 : Nat) ({ cls := "java/lang/Math", name := "max", desc := "(II)I" } : Jvm.MethodName)) ∈ lw_all := lw_g (lw_at lw_m8 130 rfl) rfl
theorem q1919 : (Jvm.Cond.methodLink "java/lang/StringLatin1" (38 : Nat) ({ cls := "java/lang/Math", name := "min", desc := "(II)I" } : Jvm.MethodName)) ∈ lw_all := lw_g (lw_at lw_m8 131 rfl) rfl
theorem q1920 : (Jvm.Cond.methodLink "java/lang/StringLatin1" (95 : Nat) ({ cls := "java/lang/StringLatin1", name := "indexOfChar", desc := "([BIII)I" } : Jvm.MethodName)) ∈ lw_all := lw_g (lw_at lw_m8 132 rfl) rfl
theorem q1921 : (Jvm.Cond.static ({ cls := "java/lang/StringLatin1", name := "indexOfChar", desc := "([BIII)I" } : Jvm.MethodName)) ∈ lw_all := lw_g (lw_at lw_m8 133 rfl) rfl
theorem q1922 : (Jvm.Cond.code ({ cls := "java/lang/StringLatin1", name := "indexOfChar", desc := "([BIII)I" } : Jvm.MethodName) prog_32_method_23_code (6 : Nat) (Option.some Jvm.ClassFile.FieldType.int)) ∈ lw_all := lw_g (lw_at lw_m8 134 rfl) rfl
theorem q2425 : (Jvm.Cond.static ({ cls := "java/lang/StringLatin1", name := "equals", desc := "([B[B)Z" } : Jvm.MethodName)) ∈ lw_all := lw_g (lw_at lw_m10 157 rfl) rfl
theorem q2426 : (Jvm.Cond.code ({ cls := "java/lang/StringLatin1", name := "equals", desc := "([B[B)Z" } : Jvm.MethodName) prog_32_method_13_code (3 : Nat) (Option.some Jvm.ClassFile.FieldType.boolean)) ∈ lw_all := lw_g (lw_at lw_m10 158 rfl) rfl

theorem q133 : (Jvm.Cond.initialized "java/lang/Integer") ∈ lw_all := lw_g (lw_at lw_m1 25 rfl) rfl
theorem q500 : (Jvm.Cond.static ({ cls := "java/lang/Integer", name := "stringSize", desc := "(I)I" } : Jvm.MethodName)) ∈ lw_all := lw_g (lw_at lw_m2 152 rfl) rfl
theorem q501 : (Jvm.Cond.code ({ cls := "java/lang/Integer", name := "stringSize", desc := "(I)I" } : Jvm.MethodName) prog_24_method_13_code (4 : Nat) (Option.some Jvm.ClassFile.FieldType.int)) ∈ lw_all := lw_g (lw_at lw_m2 153 rfl) rfl
theorem q503 : (Jvm.Cond.static ({ cls := "java/lang/Integer", name := "getChars", desc := "(II[B)I" } : Jvm.MethodName)) ∈ lw_all := lw_g (lw_at lw_m2 155 rfl) rfl
theorem q504 : (Jvm.Cond.code ({ cls := "java/lang/Integer", name := "getChars", desc := "(II[B)I" } : Jvm.MethodName) prog_24_method_12_code (7 : Nat) (Option.some Jvm.ClassFile.FieldType.int)) ∈ lw_all := lw_g (lw_at lw_m2 156 rfl) rfl
theorem q505 : (Jvm.Cond.fieldLink "java/lang/Integer" (83 : Nat) "java/lang/Integer" "DigitOnes" "[B") ∈ lw_all := lw_g (lw_at lw_m2 157 rfl) rfl
theorem q506 : (Jvm.Cond.laysStatic "java/lang/Integer" "DigitOnes" "[B") ∈ lw_tbl := lw_at lw_m2 158 rfl
theorem q507 : (Jvm.Cond.fieldLink "java/lang/Integer" (87 : Nat) "java/lang/Integer" "DigitTens" "[B") ∈ lw_all := lw_g (lw_at lw_m2 159 rfl) rfl
theorem q508 : (Jvm.Cond.laysStatic "java/lang/Integer" "DigitTens" "[B") ∈ lw_tbl := lw_at lw_m2 160 rfl
theorem q658 : (Jvm.Cond.static ({ cls := "java/lang/Integer", name := "valueOf", desc := "(I)Ljava/lang/Integer;" } : Jvm.MethodName)) ∈ lw_all := lw_g (lw_at lw_m3 70 rfl) rfl
theorem q659 : (Jvm.Cond.code ({ cls := "java/lang/Integer", name := "valueOf", desc := "(I)Ljava/lang/Integer;" } : Jvm.MethodName) prog_24_method_22_code (1 : Nat) (Option.some (Jvm.ClassFile.FieldType.object "java/lang/Integer"))) ∈ lw_all := lw_g (lw_at lw_m3 71 rfl) rfl
theorem q660 : (Jvm.Cond.fieldLink "java/lang/Integer" (191 : Nat) "java/lang/Integer$IntegerCache" "high" "I") ∈ lw_all := lw_g (lw_at lw_m3 72 rfl) rfl
theorem q662 : (Jvm.Cond.fieldLink "java/lang/Integer" (195 : Nat) "java/lang/Integer$IntegerCache" "cache" "[Ljava/lang/Integer;") ∈ lw_all := lw_g (lw_at lw_m3 74 rfl) rfl
theorem q664 : (Jvm.Cond.classLink "java/lang/Integer" (1 : Nat) "java/lang/Integer") ∈ lw_all := lw_g (lw_at lw_m3 76 rfl) rfl
theorem q665 : (Jvm.Cond.instantiable "java/lang/Integer" (1 : Nat)) ∈ lw_all := lw_g (lw_at lw_m3 77 rfl) rfl
theorem q666 : (Jvm.Cond.methodLink "java/lang/Integer" (199 : Nat) ({ cls := "java/lang/Integer", name := "<init>", desc := "(I)V" } : Jvm.MethodName)) ∈ lw_all := lw_g (lw_at lw_m3 78 rfl) rfl
theorem q667 : (Jvm.Cond.instanceMethod ({ cls := "java/lang/Integer", name := "<init>", desc := "(I)V" } : Jvm.MethodName)) ∈ lw_all := lw_g (lw_at lw_m3 79 rfl) rfl
theorem q668 : (Jvm.Cond.code ({ cls := "java/lang/Integer", name := "<init>", desc := "(I)V" } : Jvm.MethodName) prog_24_method_23_code (2 : Nat) (Option.none : Option Jvm.ClassFile.FieldType)) ∈ lw_all := lw_g (lw_at lw_m3 80 rfl) rfl
theorem q669 : (Jvm.Cond.methodLink "java/lang/Integer" (202 : Nat) ({ cls := "java/lang/Number", name := "<init>", desc := "()V" } : Jvm.MethodName)) ∈ lw_all := lw_g (lw_at lw_m3 81 rfl) rfl
theorem q673 : (Jvm.Cond.fieldLink "java/lang/Integer" (205 : Nat) "java/lang/Integer" "value" "I") ∈ lw_all := lw_g (lw_at lw_m3 85 rfl) rfl
theorem q674 : (Jvm.Cond.laysFinal "java/lang/Integer" "java/lang/Integer" "value" "I") ∈ lw_all := lw_g (lw_at lw_m3 86 rfl) rfl
theorem q675 : (Jvm.Cond.soleField "java/lang/Integer" "value") ∈ lw_all := lw_g (lw_at lw_m3 87 rfl) rfl
theorem q676 : (Jvm.Cond.superclass "java/lang/Integer" "java/lang/Number") ∈ lw_all := lw_g (lw_at lw_m3 88 rfl) rfl
theorem q729 : (Jvm.Cond.selects "java/lang/Integer" ({ cls := "java/lang/Object", name := "getClass", desc := "()Ljava/lang/Class;" } : Jvm.MethodName) ({ cls := "java/lang/Object", name := "getClass", desc := "()Ljava/lang/Class;" } : Jvm.MethodName)) ∈ lw_all := lw_g (lw_at lw_m3 141 rfl) rfl
theorem q1458 : (Jvm.Cond.instanceMethod ({ cls := "java/lang/Integer", name := "intValue", desc := "()I" } : Jvm.MethodName)) ∈ lw_all := lw_g (lw_at lw_m6 150 rfl) rfl
theorem q1459 : (Jvm.Cond.selects "java/lang/Integer" ({ cls := "java/lang/Integer", name := "intValue", desc := "()I" } : Jvm.MethodName) ({ cls := "java/lang/Integer", name := "intValue", desc := "()I" } : Jvm.MethodName)) ∈ lw_all := lw_g (lw_at lw_m6 151 rfl) rfl
theorem q1460 : (Jvm.Cond.code ({ cls := "java/lang/Integer", name := "intValue", desc := "()I" } : Jvm.MethodName) prog_24_method_27_code (1 : Nat) (Option.some Jvm.ClassFile.FieldType.int)) ∈ lw_all := lw_g (lw_at lw_m6 152 rfl) rfl
theorem q2416 : (Jvm.Cond.selects "java/lang/Integer" ({ cls := "java/lang/Object", name := "equals", desc := "(Ljava/lang/Object;)Z" } : Jvm.MethodName) ({ cls := "java/lang/Integer", name := "equals", desc := "(Ljava/lang/Object;)Z" } : Jvm.MethodName)) ∈ lw_all := lw_g (lw_at lw_m10 148 rfl) rfl
theorem q2417 : (Jvm.Cond.instanceMethod ({ cls := "java/lang/Integer", name := "equals", desc := "(Ljava/lang/Object;)Z" } : Jvm.MethodName)) ∈ lw_all := lw_g (lw_at lw_m10 149 rfl) rfl
theorem q2418 : (Jvm.Cond.code ({ cls := "java/lang/Integer", name := "equals", desc := "(Ljava/lang/Object;)Z" } : Jvm.MethodName) prog_24_method_34_code (2 : Nat) (Option.some Jvm.ClassFile.FieldType.boolean)) ∈ lw_all := lw_g (lw_at lw_m10 150 rfl) rfl
theorem q2419 : (Jvm.Cond.methodLink "java/lang/Integer" (211 : Nat) ({ cls := "java/lang/Integer", name := "intValue", desc := "()I" } : Jvm.MethodName)) ∈ lw_all := lw_g (lw_at lw_m10 151 rfl) rfl
theorem q3127 : (Jvm.Cond.castable "java/lang/Integer" "java/lang/Object") ∈ lw_tbl := lw_at lw_m13 139 rfl
theorem in_J21 : ∀ w ∈ wsJ210, w ∈ lw_all := lw_in wsJ210 [674] (by decide +kernel) (by decide +kernel)

theorem q139 : (Jvm.Cond.initialized "java/util/LinkedList$Node") ∈ lw_all := lw_g (lw_at lw_m1 31 rfl) rfl
theorem q743 : (Jvm.Cond.selects "java/util/LinkedList$Node" ({ cls := "java/lang/Object", name := "getClass", desc := "()Ljava/lang/Class;" } : Jvm.MethodName) ({ cls := "java/lang/Object", name := "getClass", desc := "()Ljava/lang/Class;" } : Jvm.MethodName)) ∈ lw_all := lw_g (lw_at lw_m3 155 rfl) rfl
theorem q1570 : (Jvm.Cond.instantiable "java/util/LinkedList$Node" (3 : Nat)) ∈ lw_all := lw_g (lw_at lw_m7 22 rfl) rfl
theorem q1572 : (Jvm.Cond.instanceMethod ({ cls := "java/util/LinkedList$Node", name := "<init>", desc := "(Ljava/util/LinkedList$Node;Ljava/lang/Object;Ljava/util/LinkedList$Node;)V" } : Jvm.MethodName)) ∈ lw_all := lw_g (lw_at lw_m7 24 rfl) rfl
theorem q1573 : (Jvm.Cond.code ({ cls := "java/util/LinkedList$Node", name := "<init>", desc := "(Ljava/util/LinkedList$Node;Ljava/lang/Object;Ljava/util/LinkedList$Node;)V" } : Jvm.MethodName) prog_57_method_1_code (4 : Nat) (Option.none : Option Jvm.ClassFile.FieldType)) ∈ lw_all := lw_g (lw_at lw_m7 25 rfl) rfl
theorem q1574 : (Jvm.Cond.methodLink "java/util/LinkedList$Node" (1 : Nat) ({ cls := "java/lang/Object", name := "<init>", desc := "()V" } : Jvm.MethodName)) ∈ lw_all := lw_g (lw_at lw_m7 26 rfl) rfl
theorem q1575 : (Jvm.Cond.fieldLink "java/util/LinkedList$Node" (7 : Nat) "java/util/LinkedList$Node" "item" "Ljava/lang/Object;") ∈ lw_all := lw_g (lw_at lw_m7 27 rfl) rfl
theorem q1578 : (Jvm.Cond.fieldLink "java/util/LinkedList$Node" (13 : Nat) "java/util/LinkedList$Node" "next" "Ljava/util/LinkedList$Node;") ∈ lw_all := lw_g (lw_at lw_m7 30 rfl) rfl
theorem q1581 : (Jvm.Cond.fieldLink "java/util/LinkedList$Node" (17 : Nat) "java/util/LinkedList$Node" "prev" "Ljava/util/LinkedList$Node;") ∈ lw_all := lw_g (lw_at lw_m7 33 rfl) rfl
theorem q1584 : (Jvm.Cond.lays "java/util/LinkedList$Node" "java/util/LinkedList$Node" "item" "Ljava/lang/Object;") ∈ lw_all := lw_g (lw_at lw_m7 36 rfl) rfl
theorem q1585 : (Jvm.Cond.soleField "java/util/LinkedList$Node" "item") ∈ lw_all := lw_g (lw_at lw_m7 37 rfl) rfl
theorem q1586 : (Jvm.Cond.lays "java/util/LinkedList$Node" "java/util/LinkedList$Node" "next" "Ljava/util/LinkedList$Node;") ∈ lw_all := lw_g (lw_at lw_m7 38 rfl) rfl
theorem q1587 : (Jvm.Cond.soleField "java/util/LinkedList$Node" "next") ∈ lw_all := lw_g (lw_at lw_m7 39 rfl) rfl
theorem q1588 : (Jvm.Cond.lays "java/util/LinkedList$Node" "java/util/LinkedList$Node" "prev" "Ljava/util/LinkedList$Node;") ∈ lw_all := lw_g (lw_at lw_m7 40 rfl) rfl
theorem q1589 : (Jvm.Cond.soleField "java/util/LinkedList$Node" "prev") ∈ lw_all := lw_g (lw_at lw_m7 41 rfl) rfl
theorem q1590 : (Jvm.Cond.superclass "java/util/LinkedList$Node" "java/lang/Object") ∈ lw_all := lw_g (lw_at lw_m7 42 rfl) rfl
theorem q3131 : (Jvm.Cond.castable "java/util/LinkedList$Node" "java/lang/Object") ∈ lw_tbl := lw_at lw_m13 143 rfl
theorem in_J24 : ∀ w ∈ wsJ240, w ∈ lw_all := lw_in wsJ240 [1584, 1586, 1588] (by decide +kernel) (by decide +kernel)

theorem q142 : (Jvm.Cond.initialized "java/util/ArrayList$Itr") ∈ lw_all := lw_g (lw_at lw_m1 34 rfl) rfl
theorem q180 : (Jvm.Cond.fieldLink "java/util/ArrayList$Itr" (37 : Nat) "java/util/ArrayList" "elementData" "[Ljava/lang/Object;") ∈ lw_all := lw_g (lw_at lw_m1 72 rfl) rfl
theorem q181 : (Jvm.Cond.fieldLinkNest "java/util/ArrayList$Itr" (28 : Nat) "java/util/ArrayList" "size" "I" "java/util/ArrayList") ∈ lw_tbl := lw_at lw_m1 73 rfl
theorem q186 : (Jvm.Cond.fieldLink "java/util/ArrayList$Itr" (17 : Nat) "java/util/ArrayList" "modCount" "I") ∈ lw_all := lw_g (lw_at lw_m1 78 rfl) rfl
theorem q736 : (Jvm.Cond.selects "java/util/ArrayList$Itr" ({ cls := "java/lang/Object", name := "getClass", desc := "()Ljava/lang/Class;" } : Jvm.MethodName) ({ cls := "java/lang/Object", name := "getClass", desc := "()Ljava/lang/Class;" } : Jvm.MethodName)) ∈ lw_all := lw_g (lw_at lw_m3 148 rfl) rfl
theorem q1002 : (Jvm.Cond.instantiable "java/util/ArrayList$Itr" (4 : Nat)) ∈ lw_all := lw_g (lw_at lw_m4 174 rfl) rfl
theorem q1004 : (Jvm.Cond.instanceMethod ({ cls := "java/util/ArrayList$Itr", name := "<init>", desc := "(Ljava/util/ArrayList;)V" } : Jvm.MethodName)) ∈ lw_all := lw_g (lw_at lw_m4 176 rfl) rfl
theorem q1005 : (Jvm.Cond.code ({ cls := "java/util/ArrayList$Itr", name := "<init>", desc := "(Ljava/util/ArrayList;)V" } : Jvm.MethodName) prog_46_method_1_code (2 : Nat) (Option.none : Option Jvm.ClassFile.FieldType)) ∈ lw_all := lw_g (lw_at lw_m4 177 rfl) rfl
theorem q1006 : (Jvm.Cond.methodLink "java/util/ArrayList$Itr" (7 : Nat) ({ cls := "java/lang/Object", name := "<init>", desc := "()V" } : Jvm.MethodName)) ∈ lw_all := lw_g (lw_at lw_m4 178 rfl) rfl
theorem q1009 : (Jvm.Cond.fieldLink "java/util/ArrayList$Itr" (25 : Nat) "java/util/ArrayList$Itr" "cursor" "I") ∈ lw_all := lw_g (lw_at lw_m4 181 rfl) rfl
theorem q1010 : (Jvm.Cond.fieldLink "java/util/ArrayList$Itr" (13 : Nat) "java/util/ArrayList$Itr" "lastRet" "I") ∈ lw_all := lw_g (lw_at lw_m4 182 rfl) rfl
theorem q1011 : (Jvm.Cond.fieldLink "java/util/ArrayList$Itr" (22 : Nat) "java/util/ArrayList$Itr" "expectedModCount" "I") ∈ lw_all := lw_g (lw_at lw_m4 183 rfl) rfl
theorem q1012 : (Jvm.Cond.fieldLink "java/util/ArrayList$Itr" (1 : Nat) "java/util/ArrayList$Itr" "this$0" "Ljava/util/ArrayList;") ∈ lw_all := lw_g (lw_at lw_m4 184 rfl) rfl
theorem q1013 : (Jvm.Cond.lays "java/util/ArrayList$Itr" "java/util/ArrayList$Itr" "cursor" "I") ∈ lw_all := lw_g (lw_at lw_m4 185 rfl) rfl
theorem q1014 : (Jvm.Cond.soleField "java/util/ArrayList$Itr" "cursor") ∈ lw_all := lw_g (lw_at lw_m4 186 rfl) rfl
theorem q1015 : (Jvm.Cond.lays "java/util/ArrayList$Itr" "java/util/ArrayList$Itr" "lastRet" "I") ∈ lw_all := lw_g (lw_at lw_m4 187 rfl) rfl
theorem q1016 : (Jvm.Cond.soleField "java/util/ArrayList$Itr" "lastRet") ∈ lw_all := lw_g (lw_at lw_m4 188 rfl) rfl
theorem q1017 : (Jvm.Cond.lays "java/util/ArrayList$Itr" "java/util/ArrayList$Itr" "expectedModCount" "I") ∈ lw_all := lw_g (lw_at lw_m4 189 rfl) rfl
theorem q1018 : (Jvm.Cond.soleField "java/util/ArrayList$Itr" "expectedModCount") ∈ lw_all := lw_g (lw_at lw_m4 190 rfl) rfl
theorem q1019 : (Jvm.Cond.laysFinal "java/util/ArrayList$Itr" "java/util/ArrayList$Itr" "this$0" "Ljava/util/ArrayList;") ∈ lw_all := lw_g (lw_at lw_m4 191 rfl) rfl
theorem q1020 : (Jvm.Cond.soleField "java/util/ArrayList$Itr" "this$0") ∈ lw_all := lw_g (lw_at lw_m4 192 rfl) rfl
theorem q1021 : (Jvm.Cond.superclass "java/util/ArrayList$Itr" "java/lang/Object") ∈ lw_all := lw_g (lw_at lw_m4 193 rfl) rfl
theorem q1142 : (Jvm.Cond.castable "java/util/ArrayList$Itr" "java/util/Iterator") ∈ lw_tbl := lw_at lw_m5 74 rfl
theorem q1143 : (Jvm.Cond.selects "java/util/ArrayList$Itr" ({ cls := "java/util/Iterator", name := "hasNext", desc := "()Z" } : Jvm.MethodName) ({ cls := "java/util/ArrayList$Itr", name := "hasNext", desc := "()Z" } : Jvm.MethodName)) ∈ lw_all := lw_g (lw_at lw_m5 75 rfl) rfl
theorem q1144 : (Jvm.Cond.unhidden "java/util/ArrayList$Itr" "hasNext" "()Z") ∈ lw_tbl := lw_at lw_m5 76 rfl
theorem q1145 : (Jvm.Cond.instanceMethod ({ cls := "java/util/ArrayList$Itr", name := "hasNext", desc := "()Z" } : Jvm.MethodName)) ∈ lw_all := lw_g (lw_at lw_m5 77 rfl) rfl
theorem q1146 : (Jvm.Cond.publicMethod ({ cls := "java/util/ArrayList$Itr", name := "hasNext", desc := "()Z" } : Jvm.MethodName)) ∈ lw_tbl := lw_at lw_m5 78 rfl
theorem q1147 : (Jvm.Cond.code ({ cls := "java/util/ArrayList$Itr", name := "hasNext", desc := "()Z" } : Jvm.MethodName) prog_46_method_2_code (1 : Nat) (Option.some Jvm.ClassFile.FieldType.boolean)) ∈ lw_all := lw_g (lw_at lw_m5 79 rfl) rfl
theorem q1288 : (Jvm.Cond.selects "java/util/ArrayList$Itr" ({ cls := "java/util/Iterator", name := "next", desc := "()Ljava/lang/Object;" } : Jvm.MethodName) ({ cls := "java/util/ArrayList$Itr", name := "next", desc := "()Ljava/lang/Object;" } : Jvm.MethodName)) ∈ lw_all := lw_g (lw_at lw_m5 220 rfl) rfl
theorem q1289 : (Jvm.Cond.unhidden "java/util/ArrayList$Itr" "next" "()Ljava/lang/Object;") ∈ lw_tbl := lw_at lw_m5 221 rfl
theorem q1290 : (Jvm.Cond.instanceMethod ({ cls := "java/util/ArrayList$Itr", name := "next", desc := "()Ljava/lang/Object;" } : Jvm.MethodName)) ∈ lw_all := lw_g (lw_at lw_m5 222 rfl) rfl
theorem q1291 : (Jvm.Cond.publicMethod ({ cls := "java/util/ArrayList$Itr", name := "next", desc := "()Ljava/lang/Object;" } : Jvm.MethodName)) ∈ lw_tbl := lw_at lw_m5 223 rfl
theorem q1292 : (Jvm.Cond.code ({ cls := "java/util/ArrayList$Itr", name := "next", desc := "()Ljava/lang/Object;" } : Jvm.MethodName) prog_46_method_3_code (3 : Nat) (Option.some (Jvm.ClassFile.FieldType.object "java/lang/Object"))) ∈ lw_all := lw_g (lw_at lw_m5 224 rfl) rfl
theorem q1293 : (Jvm.Cond.methodLink "java/util/ArrayList$Itr" (31 : Nat) ({ cls := "java/util/ArrayList$Itr", name := "checkForComodification", desc := "()V" } : Jvm.MethodName)) ∈ lw_all := lw_g (lw_at lw_m5 225 rfl) rfl
theorem q1294 : (Jvm.Cond.instanceMethod ({ cls := "java/util/ArrayList$Itr", name := "checkForComodification", desc := "()V" } : Jvm.MethodName)) ∈ lw_all := lw_g (lw_at lw_m5 226 rfl) rfl
theorem q1295 : (Jvm.Cond.selects "java/util/ArrayList$Itr" ({ cls := "java/util/ArrayList$Itr", name := "checkForComodification", desc := "()V" } : Jvm.MethodName) ({ cls := "java/util/ArrayList$Itr", name := "checkForComodification", desc := "()V" } : Jvm.MethodName)) ∈ lw_all := lw_g (lw_at lw_m5 227 rfl) rfl
theorem q1296 : (Jvm.Cond.sameMethod "java/util/ArrayList$Itr" "java/util/ArrayList$Itr" "checkForComodification" "()V") ∈ lw_all := lw_g (lw_at lw_m5 228 rfl) rfl
theorem q1298 : (Jvm.Cond.code ({ cls := "java/util/ArrayList$Itr", name := "checkForComodification", desc := "()V" } : Jvm.MethodName) prog_46_method_6_code (1 : Nat) (Option.none : Option Jvm.ClassFile.FieldType)) ∈ lw_all := lw_g (lw_at lw_m5 230 rfl) rfl
theorem q1299 : (Jvm.Cond.classLink "java/util/ArrayList$Itr" (34 : Nat) "java/util/NoSuchElementException") ∈ lw_all := lw_g (lw_at lw_m5 231 rfl) rfl
theorem q1300 : (Jvm.Cond.methodLink "java/util/ArrayList$Itr" (36 : Nat) ({ cls := "java/util/NoSuchElementException", name := "<init>", desc := "()V" } : Jvm.MethodName)) ∈ lw_all := lw_g (lw_at lw_m5 232 rfl) rfl
theorem q1726 : (Jvm.Cond.selects "java/util/ArrayList$Itr" ({ cls := "java/util/Iterator", name := "remove", desc := "()V" } : Jvm.MethodName) ({ cls := "java/util/ArrayList$Itr", name := "remove", desc := "()V" } : Jvm.MethodName)) ∈ lw_all := lw_g (lw_at lw_m7 178 rfl) rfl
theorem q1727 : (Jvm.Cond.unhidden "java/util/ArrayList$Itr" "remove" "()V") ∈ lw_tbl := lw_at lw_m7 179 rfl
theorem q1728 : (Jvm.Cond.instanceMethod ({ cls := "java/util/ArrayList$Itr", name := "remove", desc := "()V" } : Jvm.MethodName)) ∈ lw_all := lw_g (lw_at lw_m7 180 rfl) rfl
theorem q1729 : (Jvm.Cond.publicMethod ({ cls := "java/util/ArrayList$Itr", name := "remove", desc := "()V" } : Jvm.MethodName)) ∈ lw_tbl := lw_at lw_m7 181 rfl
theorem q1730 : (Jvm.Cond.codeWith ({ cls := "java/util/ArrayList$Itr", name := "remove", desc := "()V" } : Jvm.MethodName) prog_46_method_4_code (2 : Nat) (Option.none : Option Jvm.ClassFile.FieldType) [((19 : Nat), (55 : Nat), (58 : Nat), (51 : Nat))]) ∈ lw_all := lw_g (lw_at lw_m7 182 rfl) rfl
theorem q1731 : (Jvm.Cond.classLink "java/util/ArrayList$Itr" (44 : Nat) "java/lang/IllegalStateException") ∈ lw_all := lw_g (lw_at lw_m7 183 rfl) rfl
theorem q1732 : (Jvm.Cond.methodLink "java/util/ArrayList$Itr" (46 : Nat) ({ cls := "java/lang/IllegalStateException", name := "<init>", desc := "()V" } : Jvm.MethodName)) ∈ lw_all := lw_g (lw_at lw_m7 184 rfl) rfl
theorem q1733 : (Jvm.Cond.methodLink "java/util/ArrayList$Itr" (47 : Nat) ({ cls := "java/util/ArrayList", name := "remove", desc := "(I)Ljava/lang/Object;" } : Jvm.MethodName)) ∈ lw_all := lw_g (lw_at lw_m7 185 rfl) rfl
theorem q1734 : (Jvm.Cond.classLink "java/util/ArrayList$Itr" (41 : Nat) "java/util/ConcurrentModificationException") ∈ lw_all := lw_g (lw_at lw_m7 186 rfl) rfl
theorem q1735 : (Jvm.Cond.methodLink "java/util/ArrayList$Itr" (43 : Nat) ({ cls := "java/util/ConcurrentModificationException", name := "<init>", desc := "()V" } : Jvm.MethodName)) ∈ lw_all := lw_g (lw_at lw_m7 187 rfl) rfl
theorem q3137 : (Jvm.Cond.castable "java/util/ArrayList$Itr" "java/lang/Object") ∈ lw_tbl := lw_at lw_m13 149 rfl
theorem in_J26 : ∀ w ∈ wsJ260, w ∈ lw_all := lw_in wsJ260 [1013, 1015, 1017, 1019] (by decide +kernel) (by decide +kernel)

theorem q144 : (Jvm.Cond.initialized "java/util/LinkedList$ListItr") ∈ lw_all := lw_g (lw_at lw_m1 36 rfl) rfl
theorem q184 : (Jvm.Cond.fieldLink "java/util/LinkedList$ListItr" (13 : Nat) "java/util/LinkedList" "modCount" "I") ∈ lw_all := lw_g (lw_at lw_m1 76 rfl) rfl
theorem q277 : (Jvm.Cond.fieldLink "java/util/LinkedList$ListItr" (22 : Nat) "java/util/LinkedList" "size" "I") ∈ lw_all := lw_g (lw_at lw_m1 169 rfl) rfl
theorem q280 : (Jvm.Cond.fieldLink "java/util/LinkedList$ListItr" (59 : Nat) "java/util/LinkedList" "last" "Ljava/util/LinkedList$Node;") ∈ lw_all := lw_g (lw_at lw_m1 172 rfl) rfl
theorem q742 : (Jvm.Cond.selects "java/util/LinkedList$ListItr" ({ cls := "java/lang/Object", name := "getClass", desc := "()Ljava/lang/Class;" } : Jvm.MethodName) ({ cls := "java/lang/Object", name := "getClass", desc := "()Ljava/lang/Class;" } : Jvm.MethodName)) ∈ lw_all := lw_g (lw_at lw_m3 154 rfl) rfl
theorem q1095 : (Jvm.Cond.instantiable "java/util/LinkedList$ListItr" (5 : Nat)) ∈ lw_all := lw_g (lw_at lw_m5 27 rfl) rfl
theorem q1097 : (Jvm.Cond.instanceMethod ({ cls := "java/util/LinkedList$ListItr", name := "<init>", desc := "(Ljava/util/LinkedList;I)V" } : Jvm.MethodName)) ∈ lw_all := lw_g (lw_at lw_m5 29 rfl) rfl
theorem q1098 : (Jvm.Cond.code ({ cls := "java/util/LinkedList$ListItr", name := "<init>", desc := "(Ljava/util/LinkedList;I)V" } : Jvm.MethodName) prog_56_method_1_code (3 : Nat) (Option.none : Option Jvm.ClassFile.FieldType)) ∈ lw_all := lw_g (lw_at lw_m5 30 rfl) rfl
theorem q1099 : (Jvm.Cond.methodLink "java/util/LinkedList$ListItr" (7 : Nat) ({ cls := "java/lang/Object", name := "<init>", desc := "()V" } : Jvm.MethodName)) ∈ lw_all := lw_g (lw_at lw_m5 31 rfl) rfl
theorem q1100 : (Jvm.Cond.methodLink "java/util/LinkedList$ListItr" (25 : Nat) ({ cls := "java/util/LinkedList", name := "node", desc := "(I)Ljava/util/LinkedList$Node;" } : Jvm.MethodName)) ∈ lw_all := lw_g (lw_at lw_m5 32 rfl) rfl
theorem q1104 : (Jvm.Cond.fieldLink "java/util/LinkedList$ListItr" (46 : Nat) "java/util/LinkedList$ListItr" "lastReturned" "Ljava/util/LinkedList$Node;") ∈ lw_all := lw_g (lw_at lw_m5 36 rfl) rfl
theorem q1105 : (Jvm.Cond.fieldLink "java/util/LinkedList$ListItr" (29 : Nat) "java/util/LinkedList$ListItr" "next" "Ljava/util/LinkedList$Node;") ∈ lw_all := lw_g (lw_at lw_m5 37 rfl) rfl
theorem q1106 : (Jvm.Cond.fieldLink "java/util/LinkedList$ListItr" (33 : Nat) "java/util/LinkedList$ListItr" "nextIndex" "I") ∈ lw_all := lw_g (lw_at lw_m5 38 rfl) rfl
theorem q1107 : (Jvm.Cond.fieldLink "java/util/LinkedList$ListItr" (19 : Nat) "java/util/LinkedList$ListItr" "expectedModCount" "I") ∈ lw_all := lw_g (lw_at lw_m5 39 rfl) rfl
theorem q1108 : (Jvm.Cond.fieldLink "java/util/LinkedList$ListItr" (1 : Nat) "java/util/LinkedList$ListItr" "this$0" "Ljava/util/LinkedList;") ∈ lw_all := lw_g (lw_at lw_m5 40 rfl) rfl
theorem q1109 : (Jvm.Cond.lays "java/util/LinkedList$ListItr" "java/util/LinkedList$ListItr" "lastReturned" "Ljava/util/LinkedList$Node;") ∈ lw_all := lw_g (lw_at lw_m5 41 rfl) rfl
theorem q1110 : (Jvm.Cond.soleField "java/util/LinkedList$ListItr" "lastReturned") ∈ lw_all := lw_g (lw_at lw_m5 42 rfl) rfl
theorem q1111 : (Jvm.Cond.lays "java/util/LinkedList$ListItr" "java/util/LinkedList$ListItr" "next" "Ljava/util/LinkedList$Node;") ∈ lw_all := lw_g (lw_at lw_m5 43 rfl) rfl
theorem q1112 : (Jvm.Cond.soleField "java/util/LinkedList$ListItr" "next") ∈ lw_all := lw_g (lw_at lw_m5 44 rfl) rfl
theorem q1113 : (Jvm.Cond.lays "java/util/LinkedList$ListItr" "java/util/LinkedList$ListItr" "nextIndex" "I") ∈ lw_all := lw_g (lw_at lw_m5 45 rfl) rfl
theorem q1114 : (Jvm.Cond.soleField "java/util/LinkedList$ListItr" "nextIndex") ∈ lw_all := lw_g (lw_at lw_m5 46 rfl) rfl
theorem q1115 : (Jvm.Cond.lays "java/util/LinkedList$ListItr" "java/util/LinkedList$ListItr" "expectedModCount" "I") ∈ lw_all := lw_g (lw_at lw_m5 47 rfl) rfl
theorem q1116 : (Jvm.Cond.soleField "java/util/LinkedList$ListItr" "expectedModCount") ∈ lw_all := lw_g (lw_at lw_m5 48 rfl) rfl
theorem q1117 : (Jvm.Cond.laysFinal "java/util/LinkedList$ListItr" "java/util/LinkedList$ListItr" "this$0" "Ljava/util/LinkedList;") ∈ lw_all := lw_g (lw_at lw_m5 49 rfl) rfl
theorem q1118 : (Jvm.Cond.soleField "java/util/LinkedList$ListItr" "this$0") ∈ lw_all := lw_g (lw_at lw_m5 50 rfl) rfl
theorem q1119 : (Jvm.Cond.superclass "java/util/LinkedList$ListItr" "java/lang/Object") ∈ lw_all := lw_g (lw_at lw_m5 51 rfl) rfl
theorem q1158 : (Jvm.Cond.instanceMethod ({ cls := "java/util/LinkedList$ListItr", name := "hasPrevious", desc := "()Z" } : Jvm.MethodName)) ∈ lw_all := lw_g (lw_at lw_m5 90 rfl) rfl
theorem q1159 : (Jvm.Cond.selects "java/util/LinkedList$ListItr" ({ cls := "java/util/LinkedList$ListItr", name := "hasPrevious", desc := "()Z" } : Jvm.MethodName) ({ cls := "java/util/LinkedList$ListItr", name := "hasPrevious", desc := "()Z" } : Jvm.MethodName)) ∈ lw_all := lw_g (lw_at lw_m5 91 rfl) rfl
theorem q1160 : (Jvm.Cond.code ({ cls := "java/util/LinkedList$ListItr", name := "hasPrevious", desc := "()Z" } : Jvm.MethodName) prog_56_method_4_code (1 : Nat) (Option.some Jvm.ClassFile.FieldType.boolean)) ∈ lw_all := lw_g (lw_at lw_m5 92 rfl) rfl
theorem q1161 : (Jvm.Cond.castable "java/util/LinkedList$ListItr" "java/util/Iterator") ∈ lw_tbl := lw_at lw_m5 93 rfl
theorem q1162 : (Jvm.Cond.selects "java/util/LinkedList$ListItr" ({ cls := "java/util/Iterator", name := "hasNext", desc := "()Z" } : Jvm.MethodName) ({ cls := "java/util/LinkedList$ListItr", name := "hasNext", desc := "()Z" } : Jvm.MethodName)) ∈ lw_all := lw_g (lw_at lw_m5 94 rfl) rfl
theorem q1163 : (Jvm.Cond.unhidden "java/util/LinkedList$ListItr" "hasNext" "()Z") ∈ lw_tbl := lw_at lw_m5 95 rfl
theorem q1164 : (Jvm.Cond.instanceMethod ({ cls := "java/util/LinkedList$ListItr", name := "hasNext", desc := "()Z" } : Jvm.MethodName)) ∈ lw_all := lw_g (lw_at lw_m5 96 rfl) rfl
theorem q1165 : (Jvm.Cond.publicMethod ({ cls := "java/util/LinkedList$ListItr", name := "hasNext", desc := "()Z" } : Jvm.MethodName)) ∈ lw_tbl := lw_at lw_m5 97 rfl
theorem q1166 : (Jvm.Cond.code ({ cls := "java/util/LinkedList$ListItr", name := "hasNext", desc := "()Z" } : Jvm.MethodName) prog_56_method_2_code (1 : Nat) (Option.some Jvm.ClassFile.FieldType.boolean)) ∈ lw_all := lw_g (lw_at lw_m5 98 rfl) rfl
theorem q1309 : (Jvm.Cond.instanceMethod ({ cls := "java/util/LinkedList$ListItr", name := "previous", desc := "()Ljava/lang/Object;" } : Jvm.MethodName)) ∈ lw_all := lw_g (lw_at lw_m6 1 rfl) rfl
theorem q1310 : (Jvm.Cond.selects "java/util/LinkedList$ListItr" ({ cls := "java/util/LinkedList$ListItr", name := "previous", desc := "()Ljava/lang/Object;" } : Jvm.MethodName) ({ cls := "java/util/LinkedList$ListItr", name := "previous", desc := "()Ljava/lang/Object;" } : Jvm.MethodName)) ∈ lw_all := lw_g (lw_at lw_m6 2 rfl) rfl
theorem q1311 : (Jvm.Cond.code ({ cls := "java/util/LinkedList$ListItr", name := "previous", desc := "()Ljava/lang/Object;" } : Jvm.MethodName) prog_56_method_5_code (1 : Nat) (Option.some (Jvm.ClassFile.FieldType.object "java/lang/Object"))) ∈ lw_all := lw_g (lw_at lw_m6 3 rfl) rfl
theorem q1312 : (Jvm.Cond.methodLink "java/util/LinkedList$ListItr" (36 : Nat) ({ cls := "java/util/LinkedList$ListItr", name := "checkForComodification", desc := "()V" } : Jvm.MethodName)) ∈ lw_all := lw_g (lw_at lw_m6 4 rfl) rfl
theorem q1313 : (Jvm.Cond.instanceMethod ({ cls := "java/util/LinkedList$ListItr", name := "checkForComodification", desc := "()V" } : Jvm.MethodName)) ∈ lw_all := lw_g (lw_at lw_m6 5 rfl) rfl
theorem q1314 : (Jvm.Cond.selects "java/util/LinkedList$ListItr" ({ cls := "java/util/LinkedList$ListItr", name := "checkForComodification", desc := "()V" } : Jvm.MethodName) ({ cls := "java/util/LinkedList$ListItr", name := "checkForComodification", desc := "()V" } : Jvm.MethodName)) ∈ lw_all := lw_g (lw_at lw_m6 6 rfl) rfl
theorem q1315 : (Jvm.Cond.code ({ cls := "java/util/LinkedList$ListItr", name := "checkForComodification", desc := "()V" } : Jvm.MethodName) prog_56_method_12_code (1 : Nat) (Option.none : Option Jvm.ClassFile.FieldType)) ∈ lw_all := lw_g (lw_at lw_m6 7 rfl) rfl
theorem q1316 : (Jvm.Cond.methodLink "java/util/LinkedList$ListItr" (56 : Nat) ({ cls := "java/util/LinkedList$ListItr", name := "hasPrevious", desc := "()Z" } : Jvm.MethodName)) ∈ lw_all := lw_g (lw_at lw_m6 8 rfl) rfl
theorem q1317 : (Jvm.Cond.classLink "java/util/LinkedList$ListItr" (43 : Nat) "java/util/NoSuchElementException") ∈ lw_all := lw_g (lw_at lw_m6 9 rfl) rfl
theorem q1318 : (Jvm.Cond.methodLink "java/util/LinkedList$ListItr" (45 : Nat) ({ cls := "java/util/NoSuchElementException", name := "<init>", desc := "()V" } : Jvm.MethodName)) ∈ lw_all := lw_g (lw_at lw_m6 10 rfl) rfl
theorem q1319 : (Jvm.Cond.selects "java/util/LinkedList$ListItr" ({ cls := "java/util/Iterator", name := "next", desc := "()Ljava/lang/Object;" } : Jvm.MethodName) ({ cls := "java/util/LinkedList$ListItr", name := "next", desc := "()Ljava/lang/Object;" } : Jvm.MethodName)) ∈ lw_all := lw_g (lw_at lw_m6 11 rfl) rfl
theorem q1320 : (Jvm.Cond.unhidden "java/util/LinkedList$ListItr" "next" "()Ljava/lang/Object;") ∈ lw_tbl := lw_at lw_m6 12 rfl
theorem q1321 : (Jvm.Cond.instanceMethod ({ cls := "java/util/LinkedList$ListItr", name := "next", desc := "()Ljava/lang/Object;" } : Jvm.MethodName)) ∈ lw_all := lw_g (lw_at lw_m6 13 rfl) rfl
theorem q1322 : (Jvm.Cond.publicMethod ({ cls := "java/util/LinkedList$ListItr", name := "next", desc := "()Ljava/lang/Object;" } : Jvm.MethodName)) ∈ lw_tbl := lw_at lw_m6 14 rfl
theorem q1323 : (Jvm.Cond.code ({ cls := "java/util/LinkedList$ListItr", name := "next", desc := "()Ljava/lang/Object;" } : Jvm.MethodName) prog_56_method_3_code (1 : Nat) (Option.some (Jvm.ClassFile.FieldType.object "java/lang/Object"))) ∈ lw_all := lw_g (lw_at lw_m6 15 rfl) rfl
theorem q1324 : (Jvm.Cond.methodLink "java/util/LinkedList$ListItr" (39 : Nat) ({ cls := "java/util/LinkedList$ListItr", name := "hasNext", desc := "()Z" } : Jvm.MethodName)) ∈ lw_all := lw_g (lw_at lw_m6 16 rfl) rfl
theorem q1576 : (Jvm.Cond.fieldLink "java/util/LinkedList$ListItr" (52 : Nat) "java/util/LinkedList$Node" "item" "Ljava/lang/Object;") ∈ lw_all := lw_g (lw_at lw_m7 28 rfl) rfl
theorem q1579 : (Jvm.Cond.fieldLink "java/util/LinkedList$ListItr" (49 : Nat) "java/util/LinkedList$Node" "next" "Ljava/util/LinkedList$Node;") ∈ lw_all := lw_g (lw_at lw_m7 31 rfl) rfl
theorem q1582 : (Jvm.Cond.fieldLink "java/util/LinkedList$ListItr" (62 : Nat) "java/util/LinkedList$Node" "prev" "Ljava/util/LinkedList$Node;") ∈ lw_all := lw_g (lw_at lw_m7 34 rfl) rfl
theorem q1744 : (Jvm.Cond.instanceMethod ({ cls := "java/util/LinkedList$ListItr", name := "remove", desc := "()V" } : Jvm.MethodName)) ∈ lw_all := lw_g (lw_at lw_m7 196 rfl) rfl
theorem q1745 : (Jvm.Cond.selects "java/util/LinkedList$ListItr" ({ cls := "java/util/LinkedList$ListItr", name := "remove", desc := "()V" } : Jvm.MethodName) ({ cls := "java/util/LinkedList$ListItr", name := "remove", desc := "()V" } : Jvm.MethodName)) ∈ lw_all := lw_g (lw_at lw_m7 197 rfl) rfl
theorem q1746 : (Jvm.Cond.code ({ cls := "java/util/LinkedList$ListItr", name := "remove", desc := "()V" } : Jvm.MethodName) prog_56_method_8_code (2 : Nat) (Option.none : Option Jvm.ClassFile.FieldType)) ∈ lw_all := lw_g (lw_at lw_m7 198 rfl) rfl
theorem q1747 : (Jvm.Cond.classLink "java/util/LinkedList$ListItr" (65 : Nat) "java/lang/IllegalStateException") ∈ lw_all := lw_g (lw_at lw_m7 199 rfl) rfl
theorem q1748 : (Jvm.Cond.methodLink "java/util/LinkedList$ListItr" (67 : Nat) ({ cls := "java/lang/IllegalStateException", name := "<init>", desc := "()V" } : Jvm.MethodName)) ∈ lw_all := lw_g (lw_at lw_m7 200 rfl) rfl
theorem q1749 : (Jvm.Cond.methodLink "java/util/LinkedList$ListItr" (68 : Nat) ({ cls := "java/util/LinkedList", name := "unlink", desc := "(Ljava/util/LinkedList$Node;)Ljava/lang/Object;" } : Jvm.MethodName)) ∈ lw_all := lw_g (lw_at lw_m7 201 rfl) rfl
theorem q1750 : (Jvm.Cond.selects "java/util/LinkedList$ListItr" ({ cls := "java/util/Iterator", name := "remove", desc := "()V" } : Jvm.MethodName) ({ cls := "java/util/LinkedList$ListItr", name := "remove", desc := "()V" } : Jvm.MethodName)) ∈ lw_all := lw_g (lw_at lw_m7 202 rfl) rfl
theorem q1751 : (Jvm.Cond.unhidden "java/util/LinkedList$ListItr" "remove" "()V") ∈ lw_tbl := lw_at lw_m7 203 rfl
theorem q1752 : (Jvm.Cond.publicMethod ({ cls := "java/util/LinkedList$ListItr", name := "remove", desc := "()V" } : Jvm.MethodName)) ∈ lw_tbl := lw_at lw_m7 204 rfl
theorem q3107 : (Jvm.Cond.selects "java/util/LinkedList$ListItr" ({ cls := "java/util/LinkedList$ListItr", name := "hasNext", desc := "()Z" } : Jvm.MethodName) ({ cls := "java/util/LinkedList$ListItr", name := "hasNext", desc := "()Z" } : Jvm.MethodName)) ∈ lw_all := lw_g (lw_at lw_m13 119 rfl) rfl
theorem q3134 : (Jvm.Cond.castable "java/util/LinkedList$ListItr" "java/lang/Object") ∈ lw_tbl := lw_at lw_m13 146 rfl
theorem in_J28 : ∀ w ∈ wsJ280, w ∈ lw_all := lw_in wsJ280 [1109, 1111, 1113, 1115, 1117] (by decide +kernel) (by decide +kernel)

theorem q145 : (Jvm.Cond.initialized "java/util/Objects") ∈ lw_all := lw_g (lw_at lw_m1 37 rfl) rfl
theorem q1188 : (Jvm.Cond.static ({ cls := "java/util/Objects", name := "checkIndex", desc := "(II)I" } : Jvm.MethodName)) ∈ lw_all := lw_g (lw_at lw_m5 120 rfl) rfl
theorem q1189 : (Jvm.Cond.code ({ cls := "java/util/Objects", name := "checkIndex", desc := "(II)I" } : Jvm.MethodName) prog_61_method_17_code (2 : Nat) (Option.some Jvm.ClassFile.FieldType.int)) ∈ lw_all := lw_g (lw_at lw_m5 121 rfl) rfl
theorem q1190 : (Jvm.Cond.methodLink "java/util/Objects" (105 : Nat) ({ cls := "jdk/internal/util/Preconditions", name := "checkIndex", desc := "(IILjava/util/function/BiFunction;)I" } : Jvm.MethodName)) ∈ lw_all := lw_g (lw_at lw_m5 122 rfl) rfl

theorem q148 : (Jvm.Cond.initialized "java/util/LinkedList$DescendingIterator") ∈ lw_all := lw_g (lw_at lw_m1 40 rfl) rfl
theorem q741 : (Jvm.Cond.selects "java/util/LinkedList$DescendingIterator" ({ cls := "java/lang/Object", name := "getClass", desc := "()Ljava/lang/Class;" } : Jvm.MethodName) ({ cls := "java/lang/Object", name := "getClass", desc := "()Ljava/lang/Class;" } : Jvm.MethodName)) ∈ lw_all := lw_g (lw_at lw_m3 153 rfl) rfl
theorem q1151 : (Jvm.Cond.castable "java/util/LinkedList$DescendingIterator" "java/util/Iterator") ∈ lw_tbl := lw_at lw_m5 83 rfl
theorem q1152 : (Jvm.Cond.selects "java/util/LinkedList$DescendingIterator" ({ cls := "java/util/Iterator", name := "hasNext", desc := "()Z" } : Jvm.MethodName) ({ cls := "java/util/LinkedList$DescendingIterator", name := "hasNext", desc := "()Z" } : Jvm.MethodName)) ∈ lw_all := lw_g (lw_at lw_m5 84 rfl) rfl
theorem q1153 : (Jvm.Cond.unhidden "java/util/LinkedList$DescendingIterator" "hasNext" "()Z") ∈ lw_tbl := lw_at lw_m5 85 rfl
theorem q1154 : (Jvm.Cond.instanceMethod ({ cls := "java/util/LinkedList$DescendingIterator", name := "hasNext", desc := "()Z" } : Jvm.MethodName)) ∈ lw_all := lw_g (lw_at lw_m5 86 rfl) rfl
theorem q1155 : (Jvm.Cond.publicMethod ({ cls := "java/util/LinkedList$DescendingIterator", name := "hasNext", desc := "()Z" } : Jvm.MethodName)) ∈ lw_tbl := lw_at lw_m5 87 rfl
theorem q1156 : (Jvm.Cond.code ({ cls := "java/util/LinkedList$DescendingIterator", name := "hasNext", desc := "()Z" } : Jvm.MethodName) prog_55_method_2_code (1 : Nat) (Option.some Jvm.ClassFile.FieldType.boolean)) ∈ lw_all := lw_g (lw_at lw_m5 88 rfl) rfl
theorem q1157 : (Jvm.Cond.methodLink "java/util/LinkedList$DescendingIterator" (28 : Nat) ({ cls := "java/util/LinkedList$ListItr", name := "hasPrevious", desc := "()Z" } : Jvm.MethodName)) ∈ lw_all := lw_g (lw_at lw_m5 89 rfl) rfl
theorem q1303 : (Jvm.Cond.selects "java/util/LinkedList$DescendingIterator" ({ cls := "java/util/Iterator", name := "next", desc := "()Ljava/lang/Object;" } : Jvm.MethodName) ({ cls := "java/util/LinkedList$DescendingIterator", name := "next", desc := "()Ljava/lang/Object;" } : Jvm.MethodName)) ∈ lw_all := lw_g (lw_at lw_m5 235 rfl) rfl
theorem q1304 : (Jvm.Cond.unhidden "java/util/LinkedList$DescendingIterator" "next" "()Ljava/lang/Object;") ∈ lw_tbl := lw_at lw_m5 236 rfl
theorem q1305 : (Jvm.Cond.instanceMethod ({ cls := "java/util/LinkedList$DescendingIterator", name := "next", desc := "()Ljava/lang/Object;" } : Jvm.MethodName)) ∈ lw_all := lw_g (lw_at lw_m5 237 rfl) rfl
theorem q1306 : (Jvm.Cond.publicMethod ({ cls := "java/util/LinkedList$DescendingIterator", name := "next", desc := "()Ljava/lang/Object;" } : Jvm.MethodName)) ∈ lw_tbl := lw_at lw_m5 238 rfl
theorem q1307 : (Jvm.Cond.code ({ cls := "java/util/LinkedList$DescendingIterator", name := "next", desc := "()Ljava/lang/Object;" } : Jvm.MethodName) prog_55_method_3_code (1 : Nat) (Option.some (Jvm.ClassFile.FieldType.object "java/lang/Object"))) ∈ lw_all := lw_g (lw_at lw_m5 239 rfl) rfl
theorem q1308 : (Jvm.Cond.methodLink "java/util/LinkedList$DescendingIterator" (32 : Nat) ({ cls := "java/util/LinkedList$ListItr", name := "previous", desc := "()Ljava/lang/Object;" } : Jvm.MethodName)) ∈ lw_all := lw_g (lw_at lw_m6 0 rfl) rfl
theorem q1738 : (Jvm.Cond.selects "java/util/LinkedList$DescendingIterator" ({ cls := "java/util/Iterator", name := "remove", desc := "()V" } : Jvm.MethodName) ({ cls := "java/util/LinkedList$DescendingIterator", name := "remove", desc := "()V" } : Jvm.MethodName)) ∈ lw_all := lw_g (lw_at lw_m7 190 rfl) rfl
theorem q1739 : (Jvm.Cond.unhidden "java/util/LinkedList$DescendingIterator" "remove" "()V") ∈ lw_tbl := lw_at lw_m7 191 rfl
theorem q1740 : (Jvm.Cond.instanceMethod ({ cls := "java/util/LinkedList$DescendingIterator", name := "remove", desc := "()V" } : Jvm.MethodName)) ∈ lw_all := lw_g (lw_at lw_m7 192 rfl) rfl
theorem q1741 : (Jvm.Cond.publicMethod ({ cls := "java/util/LinkedList$DescendingIterator", name := "remove", desc := "()V" } : Jvm.MethodName)) ∈ lw_tbl := lw_at lw_m7 193 rfl
theorem q1742 : (Jvm.Cond.code ({ cls := "java/util/LinkedList$DescendingIterator", name := "remove", desc := "()V" } : Jvm.MethodName) prog_55_method_4_code (1 : Nat) (Option.none : Option Jvm.ClassFile.FieldType)) ∈ lw_all := lw_g (lw_at lw_m7 194 rfl) rfl
theorem q1743 : (Jvm.Cond.methodLink "java/util/LinkedList$DescendingIterator" (36 : Nat) ({ cls := "java/util/LinkedList$ListItr", name := "remove", desc := "()V" } : Jvm.MethodName)) ∈ lw_all := lw_g (lw_at lw_m7 195 rfl) rfl
theorem q1818 : (Jvm.Cond.instantiable "java/util/LinkedList$DescendingIterator" (2 : Nat)) ∈ lw_all := lw_g (lw_at lw_m8 30 rfl) rfl
theorem q1820 : (Jvm.Cond.instanceMethod ({ cls := "java/util/LinkedList$DescendingIterator", name := "<init>", desc := "(Ljava/util/LinkedList;)V" } : Jvm.MethodName)) ∈ lw_all := lw_g (lw_at lw_m8 32 rfl) rfl
theorem q1821 : (Jvm.Cond.code ({ cls := "java/util/LinkedList$DescendingIterator", name := "<init>", desc := "(Ljava/util/LinkedList;)V" } : Jvm.MethodName) prog_55_method_1_code (2 : Nat) (Option.none : Option Jvm.ClassFile.FieldType)) ∈ lw_all := lw_g (lw_at lw_m8 33 rfl) rfl
theorem q1822 : (Jvm.Cond.methodLink "java/util/LinkedList$DescendingIterator" (7 : Nat) ({ cls := "java/lang/Object", name := "<init>", desc := "()V" } : Jvm.MethodName)) ∈ lw_all := lw_g (lw_at lw_m8 34 rfl) rfl
theorem q1823 : (Jvm.Cond.classLink "java/util/LinkedList$DescendingIterator" (13 : Nat) "java/util/LinkedList$ListItr") ∈ lw_all := lw_g (lw_at lw_m8 35 rfl) rfl
theorem q1824 : (Jvm.Cond.methodLink "java/util/LinkedList$DescendingIterator" (15 : Nat) ({ cls := "java/util/LinkedList", name := "size", desc := "()I" } : Jvm.MethodName)) ∈ lw_all := lw_g (lw_at lw_m8 36 rfl) rfl
theorem q1825 : (Jvm.Cond.methodLink "java/util/LinkedList$DescendingIterator" (21 : Nat) ({ cls := "java/util/LinkedList$ListItr", name := "<init>", desc := "(Ljava/util/LinkedList;I)V" } : Jvm.MethodName)) ∈ lw_all := lw_g (lw_at lw_m8 37 rfl) rfl
theorem q1826 : (Jvm.Cond.fieldLink "java/util/LinkedList$DescendingIterator" (24 : Nat) "java/util/LinkedList$DescendingIterator" "itr" "Ljava/util/LinkedList$ListItr;") ∈ lw_all := lw_g (lw_at lw_m8 38 rfl) rfl
theorem q1827 : (Jvm.Cond.fieldLink "java/util/LinkedList$DescendingIterator" (1 : Nat) "java/util/LinkedList$DescendingIterator" "this$0" "Ljava/util/LinkedList;") ∈ lw_all := lw_g (lw_at lw_m8 39 rfl) rfl
theorem q1828 : (Jvm.Cond.laysFinal "java/util/LinkedList$DescendingIterator" "java/util/LinkedList$DescendingIterator" "itr" "Ljava/util/LinkedList$ListItr;") ∈ lw_all := lw_g (lw_at lw_m8 40 rfl) rfl
theorem q1829 : (Jvm.Cond.soleField "java/util/LinkedList$DescendingIterator" "itr") ∈ lw_all := lw_g (lw_at lw_m8 41 rfl) rfl
theorem q1830 : (Jvm.Cond.laysFinal "java/util/LinkedList$DescendingIterator" "java/util/LinkedList$DescendingIterator" "this$0" "Ljava/util/LinkedList;") ∈ lw_all := lw_g (lw_at lw_m8 42 rfl) rfl
theorem q1831 : (Jvm.Cond.soleField "java/util/LinkedList$DescendingIterator" "this$0") ∈ lw_all := lw_g (lw_at lw_m8 43 rfl) rfl
theorem q1832 : (Jvm.Cond.superclass "java/util/LinkedList$DescendingIterator" "java/lang/Object") ∈ lw_all := lw_g (lw_at lw_m8 44 rfl) rfl
theorem q3138 : (Jvm.Cond.castable "java/util/LinkedList$DescendingIterator" "java/lang/Object") ∈ lw_tbl := lw_at lw_m13 150 rfl
theorem in_J32 : ∀ w ∈ wsJ320, w ∈ lw_all := lw_in wsJ320 [1828, 1830] (by decide +kernel) (by decide +kernel)

theorem q156 : (Jvm.Cond.initialized "java/util/ArrayDeque$DeqIterator") ∈ lw_all := lw_g (lw_at lw_m1 48 rfl) rfl
theorem q256 : (Jvm.Cond.fieldLink "java/util/ArrayDeque$DeqIterator" (35 : Nat) "java/util/ArrayDeque" "elements" "[Ljava/lang/Object;") ∈ lw_all := lw_g (lw_at lw_m1 148 rfl) rfl
theorem q257 : (Jvm.Cond.fieldLink "java/util/ArrayDeque$DeqIterator" (26 : Nat) "java/util/ArrayDeque" "head" "I") ∈ lw_all := lw_g (lw_at lw_m1 149 rfl) rfl
theorem q734 : (Jvm.Cond.selects "java/util/ArrayDeque$DeqIterator" ({ cls := "java/lang/Object", name := "getClass", desc := "()Ljava/lang/Class;" } : Jvm.MethodName) ({ cls := "java/lang/Object", name := "getClass", desc := "()Ljava/lang/Class;" } : Jvm.MethodName)) ∈ lw_all := lw_g (lw_at lw_m3 146 rfl) rfl
theorem q1136 : (Jvm.Cond.castable "java/util/ArrayDeque$DeqIterator" "java/util/Iterator") ∈ lw_tbl := lw_at lw_m5 68 rfl
theorem q1137 : (Jvm.Cond.selects "java/util/ArrayDeque$DeqIterator" ({ cls := "java/util/Iterator", name := "hasNext", desc := "()Z" } : Jvm.MethodName) ({ cls := "java/util/ArrayDeque$DeqIterator", name := "hasNext", desc := "()Z" } : Jvm.MethodName)) ∈ lw_all := lw_g (lw_at lw_m5 69 rfl) rfl
theorem q1138 : (Jvm.Cond.unhidden "java/util/ArrayDeque$DeqIterator" "hasNext" "()Z") ∈ lw_tbl := lw_at lw_m5 70 rfl
theorem q1139 : (Jvm.Cond.instanceMethod ({ cls := "java/util/ArrayDeque$DeqIterator", name := "hasNext", desc := "()Z" } : Jvm.MethodName)) ∈ lw_all := lw_g (lw_at lw_m5 71 rfl) rfl
theorem q1140 : (Jvm.Cond.publicMethod ({ cls := "java/util/ArrayDeque$DeqIterator", name := "hasNext", desc := "()Z" } : Jvm.MethodName)) ∈ lw_tbl := lw_at lw_m5 72 rfl
theorem q1141 : (Jvm.Cond.code ({ cls := "java/util/ArrayDeque$DeqIterator", name := "hasNext", desc := "()Z" } : Jvm.MethodName) prog_44_method_2_code (1 : Nat) (Option.some Jvm.ClassFile.FieldType.boolean)) ∈ lw_all := lw_g (lw_at lw_m5 73 rfl) rfl
theorem q1268 : (Jvm.Cond.selects "java/util/ArrayDeque$DeqIterator" ({ cls := "java/util/Iterator", name := "next", desc := "()Ljava/lang/Object;" } : Jvm.MethodName) ({ cls := "java/util/ArrayDeque$DeqIterator", name := "next", desc := "()Ljava/lang/Object;" } : Jvm.MethodName)) ∈ lw_all := lw_g (lw_at lw_m5 200 rfl) rfl
theorem q1269 : (Jvm.Cond.unhidden "java/util/ArrayDeque$DeqIterator" "next" "()Ljava/lang/Object;") ∈ lw_tbl := lw_at lw_m5 201 rfl
theorem q1270 : (Jvm.Cond.instanceMethod ({ cls := "java/util/ArrayDeque$DeqIterator", name := "next", desc := "()Ljava/lang/Object;" } : Jvm.MethodName)) ∈ lw_all := lw_g (lw_at lw_m5 202 rfl) rfl
theorem q1271 : (Jvm.Cond.publicMethod ({ cls := "java/util/ArrayDeque$DeqIterator", name := "next", desc := "()Ljava/lang/Object;" } : Jvm.MethodName)) ∈ lw_tbl := lw_at lw_m5 203 rfl
theorem q1272 : (Jvm.Cond.code ({ cls := "java/util/ArrayDeque$DeqIterator", name := "next", desc := "()Ljava/lang/Object;" } : Jvm.MethodName) prog_44_method_3_code (3 : Nat) (Option.some (Jvm.ClassFile.FieldType.object "java/lang/Object"))) ∈ lw_all := lw_g (lw_at lw_m5 204 rfl) rfl
theorem q1273 : (Jvm.Cond.classLink "java/util/ArrayDeque$DeqIterator" (32 : Nat) "java/util/NoSuchElementException") ∈ lw_all := lw_g (lw_at lw_m5 205 rfl) rfl
theorem q1274 : (Jvm.Cond.methodLink "java/util/ArrayDeque$DeqIterator" (34 : Nat) ({ cls := "java/util/NoSuchElementException", name := "<init>", desc := "()V" } : Jvm.MethodName)) ∈ lw_all := lw_g (lw_at lw_m5 206 rfl) rfl
theorem q1284 : (Jvm.Cond.methodLink "java/util/ArrayDeque$DeqIterator" (39 : Nat) ({ cls := "java/util/ArrayDeque", name := "nonNullElementAt", desc := "([Ljava/lang/Object;I)Ljava/lang/Object;" } : Jvm.MethodName)) ∈ lw_all := lw_g (lw_at lw_m5 216 rfl) rfl
theorem q1287 : (Jvm.Cond.methodLink "java/util/ArrayDeque$DeqIterator" (43 : Nat) ({ cls := "java/util/ArrayDeque", name := "inc", desc := "(II)I" } : Jvm.MethodName)) ∈ lw_all := lw_g (lw_at lw_m5 219 rfl) rfl
theorem q1437 : (Jvm.Cond.instantiable "java/util/ArrayDeque$DeqIterator" (4 : Nat)) ∈ lw_all := lw_g (lw_at lw_m6 129 rfl) rfl
theorem q1439 : (Jvm.Cond.instanceMethod ({ cls := "java/util/ArrayDeque$DeqIterator", name := "<init>", desc := "(Ljava/util/ArrayDeque;)V" } : Jvm.MethodName)) ∈ lw_all := lw_g (lw_at lw_m6 131 rfl) rfl
theorem q1440 : (Jvm.Cond.code ({ cls := "java/util/ArrayDeque$DeqIterator", name := "<init>", desc := "(Ljava/util/ArrayDeque;)V" } : Jvm.MethodName) prog_44_method_1_code (2 : Nat) (Option.none : Option Jvm.ClassFile.FieldType)) ∈ lw_all := lw_g (lw_at lw_m6 132 rfl) rfl
theorem q1441 : (Jvm.Cond.methodLink "java/util/ArrayDeque$DeqIterator" (7 : Nat) ({ cls := "java/lang/Object", name := "<init>", desc := "()V" } : Jvm.MethodName)) ∈ lw_all := lw_g (lw_at lw_m6 133 rfl) rfl
theorem q1442 : (Jvm.Cond.methodLink "java/util/ArrayDeque$DeqIterator" (13 : Nat) ({ cls := "java/util/ArrayDeque", name := "size", desc := "()I" } : Jvm.MethodName)) ∈ lw_all := lw_g (lw_at lw_m6 134 rfl) rfl
theorem q1443 : (Jvm.Cond.fieldLink "java/util/ArrayDeque$DeqIterator" (29 : Nat) "java/util/ArrayDeque$DeqIterator" "cursor" "I") ∈ lw_all := lw_g (lw_at lw_m6 135 rfl) rfl
theorem q1444 : (Jvm.Cond.fieldLink "java/util/ArrayDeque$DeqIterator" (19 : Nat) "java/util/ArrayDeque$DeqIterator" "remaining" "I") ∈ lw_all := lw_g (lw_at lw_m6 136 rfl) rfl
theorem q1445 : (Jvm.Cond.fieldLink "java/util/ArrayDeque$DeqIterator" (23 : Nat) "java/util/ArrayDeque$DeqIterator" "lastRet" "I") ∈ lw_all := lw_g (lw_at lw_m6 137 rfl) rfl
theorem q1446 : (Jvm.Cond.fieldLink "java/util/ArrayDeque$DeqIterator" (1 : Nat) "java/util/ArrayDeque$DeqIterator" "this$0" "Ljava/util/ArrayDeque;") ∈ lw_all := lw_g (lw_at lw_m6 138 rfl) rfl
theorem q1447 : (Jvm.Cond.lays "java/util/ArrayDeque$DeqIterator" "java/util/ArrayDeque$DeqIterator" "cursor" "I") ∈ lw_all := lw_g (lw_at lw_m6 139 rfl) rfl
theorem q1448 : (Jvm.Cond.soleField "java/util/ArrayDeque$DeqIterator" "cursor") ∈ lw_all := lw_g (lw_at lw_m6 140 rfl) rfl
theorem q1449 : (Jvm.Cond.lays "java/util/ArrayDeque$DeqIterator" "java/util/ArrayDeque$DeqIterator" "remaining" "I") ∈ lw_all := lw_g (lw_at lw_m6 141 rfl) rfl
theorem q1450 : (Jvm.Cond.soleField "java/util/ArrayDeque$DeqIterator" "remaining") ∈ lw_all := lw_g (lw_at lw_m6 142 rfl) rfl
theorem q1451 : (Jvm.Cond.lays "java/util/ArrayDeque$DeqIterator" "java/util/ArrayDeque$DeqIterator" "lastRet" "I") ∈ lw_all := lw_g (lw_at lw_m6 143 rfl) rfl
theorem q1452 : (Jvm.Cond.soleField "java/util/ArrayDeque$DeqIterator" "lastRet") ∈ lw_all := lw_g (lw_at lw_m6 144 rfl) rfl
theorem q1453 : (Jvm.Cond.laysFinal "java/util/ArrayDeque$DeqIterator" "java/util/ArrayDeque$DeqIterator" "this$0" "Ljava/util/ArrayDeque;") ∈ lw_all := lw_g (lw_at lw_m6 145 rfl) rfl
theorem q1454 : (Jvm.Cond.soleField "java/util/ArrayDeque$DeqIterator" "this$0") ∈ lw_all := lw_g (lw_at lw_m6 146 rfl) rfl
theorem q1455 : (Jvm.Cond.superclass "java/util/ArrayDeque$DeqIterator" "java/lang/Object") ∈ lw_all := lw_g (lw_at lw_m6 147 rfl) rfl
theorem q1707 : (Jvm.Cond.selects "java/util/ArrayDeque$DeqIterator" ({ cls := "java/util/Iterator", name := "remove", desc := "()V" } : Jvm.MethodName) ({ cls := "java/util/ArrayDeque$DeqIterator", name := "remove", desc := "()V" } : Jvm.MethodName)) ∈ lw_all := lw_g (lw_at lw_m7 159 rfl) rfl
theorem q1708 : (Jvm.Cond.unhidden "java/util/ArrayDeque$DeqIterator" "remove" "()V") ∈ lw_tbl := lw_at lw_m7 160 rfl
theorem q1709 : (Jvm.Cond.instanceMethod ({ cls := "java/util/ArrayDeque$DeqIterator", name := "remove", desc := "()V" } : Jvm.MethodName)) ∈ lw_all := lw_g (lw_at lw_m7 161 rfl) rfl
theorem q1710 : (Jvm.Cond.publicMethod ({ cls := "java/util/ArrayDeque$DeqIterator", name := "remove", desc := "()V" } : Jvm.MethodName)) ∈ lw_tbl := lw_at lw_m7 162 rfl
theorem q1711 : (Jvm.Cond.code ({ cls := "java/util/ArrayDeque$DeqIterator", name := "remove", desc := "()V" } : Jvm.MethodName) prog_44_method_5_code (1 : Nat) (Option.none : Option Jvm.ClassFile.FieldType)) ∈ lw_all := lw_g (lw_at lw_m7 163 rfl) rfl
theorem q1712 : (Jvm.Cond.classLink "java/util/ArrayDeque$DeqIterator" (50 : Nat) "java/lang/IllegalStateException") ∈ lw_all := lw_g (lw_at lw_m7 164 rfl) rfl
theorem q1713 : (Jvm.Cond.methodLink "java/util/ArrayDeque$DeqIterator" (52 : Nat) ({ cls := "java/lang/IllegalStateException", name := "<init>", desc := "()V" } : Jvm.MethodName)) ∈ lw_all := lw_g (lw_at lw_m7 165 rfl) rfl
theorem q1714 : (Jvm.Cond.methodLink "java/util/ArrayDeque$DeqIterator" (53 : Nat) ({ cls := "java/util/ArrayDeque", name := "delete", desc := "(I)Z" } : Jvm.MethodName)) ∈ lw_all := lw_g (lw_at lw_m7 166 rfl) rfl
theorem q1721 : (Jvm.Cond.methodLink "java/util/ArrayDeque$DeqIterator" (57 : Nat) ({ cls := "java/util/ArrayDeque$DeqIterator", name := "postDelete", desc := "(Z)V" } : Jvm.MethodName)) ∈ lw_all := lw_g (lw_at lw_m7 173 rfl) rfl
theorem q1722 : (Jvm.Cond.instanceMethod ({ cls := "java/util/ArrayDeque$DeqIterator", name := "postDelete", desc := "(Z)V" } : Jvm.MethodName)) ∈ lw_all := lw_g (lw_at lw_m7 174 rfl) rfl
theorem q1723 : (Jvm.Cond.selects "java/util/ArrayDeque$DeqIterator" ({ cls := "java/util/ArrayDeque$DeqIterator", name := "postDelete", desc := "(Z)V" } : Jvm.MethodName) ({ cls := "java/util/ArrayDeque$DeqIterator", name := "postDelete", desc := "(Z)V" } : Jvm.MethodName)) ∈ lw_all := lw_g (lw_at lw_m7 175 rfl) rfl
theorem q1724 : (Jvm.Cond.code ({ cls := "java/util/ArrayDeque$DeqIterator", name := "postDelete", desc := "(Z)V" } : Jvm.MethodName) prog_44_method_4_code (2 : Nat) (Option.none : Option Jvm.ClassFile.FieldType)) ∈ lw_all := lw_g (lw_at lw_m7 176 rfl) rfl
theorem q1725 : (Jvm.Cond.methodLink "java/util/ArrayDeque$DeqIterator" (47 : Nat) ({ cls := "java/util/ArrayDeque", name := "dec", desc := "(II)I" } : Jvm.MethodName)) ∈ lw_all := lw_g (lw_at lw_m7 177 rfl) rfl
theorem q3145 : (Jvm.Cond.castable "java/util/ArrayDeque$DeqIterator" "java/lang/Object") ∈ lw_tbl := lw_at lw_m13 157 rfl
theorem in_J35 : ∀ w ∈ wsJ350, w ∈ lw_all := lw_in wsJ350 [1447, 1449, 1451, 1453] (by decide +kernel) (by decide +kernel)

theorem q163 : (Jvm.Cond.instanceMethod ({ cls := "java/lang/Object", name := "<init>", desc := "()V" } : Jvm.MethodName)) ∈ lw_all := lw_g (lw_at lw_m1 55 rfl) rfl
theorem q164 : (Jvm.Cond.code ({ cls := "java/lang/Object", name := "<init>", desc := "()V" } : Jvm.MethodName) object_method_1_code (1 : Nat) (Option.none : Option Jvm.ClassFile.FieldType)) ∈ lw_all := lw_g (lw_at lw_m1 56 rfl) rfl
theorem q415 : (Jvm.Cond.native ({ cls := "java/lang/Object", name := "clone", desc := "()Ljava/lang/Object;" } : Jvm.MethodName)) ∈ lw_all := lw_g (lw_at lw_m2 67 rfl) rfl
theorem q416 : (Jvm.Cond.instanceMethod ({ cls := "java/lang/Object", name := "clone", desc := "()Ljava/lang/Object;" } : Jvm.MethodName)) ∈ lw_all := lw_g (lw_at lw_m2 68 rfl) rfl
theorem q714 : (Jvm.Cond.instanceMethod ({ cls := "java/lang/Object", name := "getClass", desc := "()Ljava/lang/Class;" } : Jvm.MethodName)) ∈ lw_all := lw_g (lw_at lw_m3 126 rfl) rfl
theorem q715 : (Jvm.Cond.sameMethod "java/lang/Object" "java/lang/Object" "getClass" "()Ljava/lang/Class;") ∈ lw_all := lw_g (lw_at lw_m3 127 rfl) rfl
theorem q745 : (Jvm.Cond.native ({ cls := "java/lang/Object", name := "getClass", desc := "()Ljava/lang/Class;" } : Jvm.MethodName)) ∈ lw_all := lw_g (lw_at lw_m3 157 rfl) rfl
theorem q2399 : (Jvm.Cond.declares ({ cls := "java/lang/Object", name := "equals", desc := "(Ljava/lang/Object;)Z" } : Jvm.MethodName)) ∈ lw_tbl := lw_at lw_m10 131 rfl
theorem q2401 : (Jvm.Cond.instanceMethod ({ cls := "java/lang/Object", name := "equals", desc := "(Ljava/lang/Object;)Z" } : Jvm.MethodName)) ∈ lw_all := lw_g (lw_at lw_m10 133 rfl) rfl
theorem q2402 : (Jvm.Cond.sameMethod "java/lang/Object" "java/lang/Object" "equals" "(Ljava/lang/Object;)Z") ∈ lw_all := lw_g (lw_at lw_m10 134 rfl) rfl
theorem q2428 : (Jvm.Cond.code ({ cls := "java/lang/Object", name := "equals", desc := "(Ljava/lang/Object;)Z" } : Jvm.MethodName) object_method_4_code (2 : Nat) (Option.some Jvm.ClassFile.FieldType.boolean)) ∈ lw_all := lw_g (lw_at lw_m10 160 rfl) rfl
theorem q3114 : (Jvm.Cond.initialized "java/lang/Object") ∈ lw_all := lw_g (lw_at lw_m13 126 rfl) rfl
theorem q3149 : (Jvm.Cond.declares ({ cls := "java/lang/Object", name := "getClass", desc := "()Ljava/lang/Class;" } : Jvm.MethodName)) ∈ lw_tbl := lw_at lw_m13 161 rfl

theorem q126 : (Jvm.Cond.initialized "jdk/internal/util/ArraysSupport") ∈ lw_all := lw_g (lw_at lw_m1 18 rfl) rfl
theorem q400 : (Jvm.Cond.static ({ cls := "jdk/internal/util/ArraysSupport", name := "newLength", desc := "(III)I" } : Jvm.MethodName)) ∈ lw_all := lw_g (lw_at lw_m2 52 rfl) rfl
theorem q401 : (Jvm.Cond.code ({ cls := "jdk/internal/util/ArraysSupport", name := "newLength", desc := "(III)I" } : Jvm.MethodName) prog_65_method_27_code (4 : Nat) (Option.some Jvm.ClassFile.FieldType.int)) ∈ lw_all := lw_g (lw_at lw_m2 53 rfl) rfl
theorem q402 : (Jvm.Cond.methodLink "jdk/internal/util/ArraysSupport" (194 : Nat) ({ cls := "java/lang/Math", name := "max", desc := "(II)I" } : Jvm.MethodName)) ∈ lw_all := lw_g (lw_at lw_m2 54 rfl) rfl
theorem q405 : (Jvm.Cond.constant "jdk/internal/util/ArraysSupport" (200 : Nat) (2147483639 : Int32)) ∈ lw_all := lw_g (lw_at lw_m2 57 rfl) rfl
theorem q406 : (Jvm.Cond.methodLink "jdk/internal/util/ArraysSupport" (201 : Nat) ({ cls := "jdk/internal/util/ArraysSupport", name := "hugeLength", desc := "(II)I" } : Jvm.MethodName)) ∈ lw_all := lw_g (lw_at lw_m2 58 rfl) rfl
theorem q407 : (Jvm.Cond.static ({ cls := "jdk/internal/util/ArraysSupport", name := "hugeLength", desc := "(II)I" } : Jvm.MethodName)) ∈ lw_all := lw_g (lw_at lw_m2 59 rfl) rfl
theorem q408 : (Jvm.Cond.code ({ cls := "jdk/internal/util/ArraysSupport", name := "hugeLength", desc := "(II)I" } : Jvm.MethodName) prog_65_method_28_code (3 : Nat) (Option.some Jvm.ClassFile.FieldType.int)) ∈ lw_all := lw_g (lw_at lw_m2 60 rfl) rfl

theorem q130 : (Jvm.Cond.initialized "jdk/internal/util/Preconditions") ∈ lw_all := lw_g (lw_at lw_m1 22 rfl) rfl
theorem q444 : (Jvm.Cond.laysStatic "jdk/internal/util/Preconditions" "SIOOBE_FORMATTER" "Ljava/util/function/BiFunction;") ∈ lw_tbl := lw_at lw_m2 96 rfl
theorem q446 : (Jvm.Cond.static ({ cls := "jdk/internal/util/Preconditions", name := "checkFromToIndex", desc := "(IIILjava/util/function/BiFunction;)I" } : Jvm.MethodName)) ∈ lw_all := lw_g (lw_at lw_m2 98 rfl) rfl
theorem q447 : (Jvm.Cond.code ({ cls := "jdk/internal/util/Preconditions", name := "checkFromToIndex", desc := "(IIILjava/util/function/BiFunction;)I" } : Jvm.MethodName) prog_66_method_12_code (4 : Nat) (Option.some Jvm.ClassFile.FieldType.int)) ∈ lw_all := lw_g (lw_at lw_m2 99 rfl) rfl
theorem q484 : (Jvm.Cond.static ({ cls := "jdk/internal/util/Preconditions", name := "checkFromIndexSize", desc := "(IIILjava/util/function/BiFunction;)I" } : Jvm.MethodName)) ∈ lw_all := lw_g (lw_at lw_m2 136 rfl) rfl
theorem q485 : (Jvm.Cond.code ({ cls := "jdk/internal/util/Preconditions", name := "checkFromIndexSize", desc := "(IIILjava/util/function/BiFunction;)I" } : Jvm.MethodName) prog_66_method_13_code (4 : Nat) (Option.some Jvm.ClassFile.FieldType.int)) ∈ lw_all := lw_g (lw_at lw_m2 137 rfl) rfl
theorem q1191 : (Jvm.Cond.static ({ cls := "jdk/internal/util/Preconditions", name := "checkIndex", desc := "(IILjava/util/function/BiFunction;)I" } : Jvm.MethodName)) ∈ lw_all := lw_g (lw_at lw_m5 123 rfl) rfl
theorem q1192 : (Jvm.Cond.code ({ cls := "jdk/internal/util/Preconditions", name := "checkIndex", desc := "(IILjava/util/function/BiFunction;)I" } : Jvm.MethodName) prog_66_method_11_code (3 : Nat) (Option.some Jvm.ClassFile.FieldType.int)) ∈ lw_all := lw_g (lw_at lw_m5 124 rfl) rfl

theorem q150 : (Jvm.Cond.initialized "java/lang/Character") ∈ lw_all := lw_g (lw_at lw_m1 42 rfl) rfl
theorem q1939 : (Jvm.Cond.static ({ cls := "java/lang/Character", name := "isValidCodePoint", desc := "(I)Z" } : Jvm.MethodName)) ∈ lw_all := lw_g (lw_at lw_m8 151 rfl) rfl
theorem q1940 : (Jvm.Cond.code ({ cls := "java/lang/Character", name := "isValidCodePoint", desc := "(I)Z" } : Jvm.MethodName) prog_17_method_11_code (2 : Nat) (Option.some Jvm.ClassFile.FieldType.boolean)) ∈ lw_all := lw_g (lw_at lw_m8 152 rfl) rfl
theorem q1942 : (Jvm.Cond.static ({ cls := "java/lang/Character", name := "highSurrogate", desc := "(I)C" } : Jvm.MethodName)) ∈ lw_all := lw_g (lw_at lw_m8 154 rfl) rfl
theorem q1943 : (Jvm.Cond.code ({ cls := "java/lang/Character", name := "highSurrogate", desc := "(I)C" } : Jvm.MethodName) prog_17_method_28_code (1 : Nat) (Option.some Jvm.ClassFile.FieldType.char)) ∈ lw_all := lw_g (lw_at lw_m8 155 rfl) rfl
theorem q1944 : (Jvm.Cond.constant "java/lang/Character" (110 : Nat) (55232 : Int32)) ∈ lw_all := lw_g (lw_at lw_m8 156 rfl) rfl
theorem q1946 : (Jvm.Cond.static ({ cls := "java/lang/Character", name := "lowSurrogate", desc := "(I)C" } : Jvm.MethodName)) ∈ lw_all := lw_g (lw_at lw_m8 158 rfl) rfl
theorem q1947 : (Jvm.Cond.code ({ cls := "java/lang/Character", name := "lowSurrogate", desc := "(I)C" } : Jvm.MethodName) prog_17_method_29_code (1 : Nat) (Option.some Jvm.ClassFile.FieldType.char)) ∈ lw_all := lw_g (lw_at lw_m8 159 rfl) rfl
theorem q1948 : (Jvm.Cond.constant "java/lang/Character" (76 : Nat) (56320 : Int32)) ∈ lw_all := lw_g (lw_at lw_m8 160 rfl) rfl

theorem q121 : (Jvm.Cond.initialized "java/lang/RuntimeException") ∈ lw_all := lw_g (lw_at lw_m1 13 rfl) rfl
theorem q307 : (Jvm.Cond.declares ({ cls := "java/lang/RuntimeException", name := "<init>", desc := "()V" } : Jvm.MethodName)) ∈ lw_tbl := lw_at lw_m1 199 rfl
theorem q308 : (Jvm.Cond.declares ({ cls := "java/lang/RuntimeException", name := "<init>", desc := "(Ljava/lang/String;)V" } : Jvm.MethodName)) ∈ lw_tbl := lw_at lw_m1 200 rfl
theorem q572 : (Jvm.Cond.instanceMethod ({ cls := "java/lang/RuntimeException", name := "<init>", desc := "(Ljava/lang/String;)V" } : Jvm.MethodName)) ∈ lw_all := lw_g (lw_at lw_m2 224 rfl) rfl
theorem q573 : (Jvm.Cond.code ({ cls := "java/lang/RuntimeException", name := "<init>", desc := "(Ljava/lang/String;)V" } : Jvm.MethodName) prog_29_method_2_code (2 : Nat) (Option.none : Option Jvm.ClassFile.FieldType)) ∈ lw_all := lw_g (lw_at lw_m2 225 rfl) rfl
theorem q574 : (Jvm.Cond.methodLink "java/lang/RuntimeException" (7 : Nat) ({ cls := "java/lang/Exception", name := "<init>", desc := "(Ljava/lang/String;)V" } : Jvm.MethodName)) ∈ lw_all := lw_g (lw_at lw_m2 226 rfl) rfl
theorem q1222 : (Jvm.Cond.instanceMethod ({ cls := "java/lang/RuntimeException", name := "<init>", desc := "(Ljava/lang/Throwable;)V" } : Jvm.MethodName)) ∈ lw_all := lw_g (lw_at lw_m5 154 rfl) rfl
theorem q1223 : (Jvm.Cond.code ({ cls := "java/lang/RuntimeException", name := "<init>", desc := "(Ljava/lang/Throwable;)V" } : Jvm.MethodName) prog_29_method_4_code (2 : Nat) (Option.none : Option Jvm.ClassFile.FieldType)) ∈ lw_all := lw_g (lw_at lw_m5 155 rfl) rfl
theorem q1224 : (Jvm.Cond.methodLink "java/lang/RuntimeException" (13 : Nat) ({ cls := "java/lang/Exception", name := "<init>", desc := "(Ljava/lang/Throwable;)V" } : Jvm.MethodName)) ∈ lw_all := lw_g (lw_at lw_m5 156 rfl) rfl
theorem q1278 : (Jvm.Cond.instanceMethod ({ cls := "java/lang/RuntimeException", name := "<init>", desc := "()V" } : Jvm.MethodName)) ∈ lw_all := lw_g (lw_at lw_m5 210 rfl) rfl
theorem q1279 : (Jvm.Cond.code ({ cls := "java/lang/RuntimeException", name := "<init>", desc := "()V" } : Jvm.MethodName) prog_29_method_1_code (1 : Nat) (Option.none : Option Jvm.ClassFile.FieldType)) ∈ lw_all := lw_g (lw_at lw_m5 211 rfl) rfl
theorem q1280 : (Jvm.Cond.methodLink "java/lang/RuntimeException" (1 : Nat) ({ cls := "java/lang/Exception", name := "<init>", desc := "()V" } : Jvm.MethodName)) ∈ lw_all := lw_g (lw_at lw_m5 212 rfl) rfl
theorem q122 : (Jvm.Cond.initialized "java/lang/IndexOutOfBoundsException") ∈ lw_all := lw_g (lw_at lw_m1 14 rfl) rfl
theorem q305 : (Jvm.Cond.instantiable "java/lang/IndexOutOfBoundsException" (6 : Nat)) ∈ lw_all := lw_g (lw_at lw_m1 197 rfl) rfl
theorem q306 : (Jvm.Cond.castable "java/lang/IndexOutOfBoundsException" "java/lang/IndexOutOfBoundsException") ∈ lw_tbl := lw_at lw_m1 198 rfl
theorem q313 : (Jvm.Cond.selects "java/lang/IndexOutOfBoundsException" ({ cls := "java/lang/Throwable", name := "fillInStackTrace", desc := "(I)Ljava/lang/Throwable;" } : Jvm.MethodName) ({ cls := "java/lang/Throwable", name := "fillInStackTrace", desc := "(I)Ljava/lang/Throwable;" } : Jvm.MethodName)) ∈ lw_all := lw_g (lw_at lw_m1 205 rfl) rfl
theorem q314 : (Jvm.Cond.selects "java/lang/IndexOutOfBoundsException" ({ cls := "java/lang/Throwable", name := "fillInStackTrace", desc := "()Ljava/lang/Throwable;" } : Jvm.MethodName) ({ cls := "java/lang/Throwable", name := "fillInStackTrace", desc := "()Ljava/lang/Throwable;" } : Jvm.MethodName)) ∈ lw_all := lw_g (lw_at lw_m1 206 rfl) rfl
theorem q315 : (Jvm.Cond.lays "java/lang/IndexOutOfBoundsException" "java/lang/Throwable" "cause" "Ljava/lang/Throwable;") ∈ lw_all := lw_g (lw_at lw_m1 207 rfl) rfl
theorem q317 : (Jvm.Cond.lays "java/lang/IndexOutOfBoundsException" "java/lang/Throwable" "stackTrace" "[Ljava/lang/StackTraceElement;") ∈ lw_all := lw_g (lw_at lw_m1 209 rfl) rfl
theorem q319 : (Jvm.Cond.lays "java/lang/IndexOutOfBoundsException" "java/lang/Throwable" "suppressedExceptions" "Ljava/util/List;") ∈ lw_all := lw_g (lw_at lw_m1 211 rfl) rfl
theorem q321 : (Jvm.Cond.lays "java/lang/IndexOutOfBoundsException" "java/lang/Throwable" "detailMessage" "Ljava/lang/String;") ∈ lw_all := lw_g (lw_at lw_m1 213 rfl) rfl
theorem q323 : (Jvm.Cond.lays "java/lang/IndexOutOfBoundsException" "java/lang/Throwable" "backtrace" "Ljava/lang/Object;") ∈ lw_all := lw_g (lw_at lw_m1 215 rfl) rfl
theorem q618 : (Jvm.Cond.instanceMethod ({ cls := "java/lang/IndexOutOfBoundsException", name := "<init>", desc := "(Ljava/lang/String;)V" } : Jvm.MethodName)) ∈ lw_all := lw_g (lw_at lw_m3 30 rfl) rfl
theorem q619 : (Jvm.Cond.code ({ cls := "java/lang/IndexOutOfBoundsException", name := "<init>", desc := "(Ljava/lang/String;)V" } : Jvm.MethodName) prog_23_method_2_code (2 : Nat) (Option.none : Option Jvm.ClassFile.FieldType)) ∈ lw_all := lw_g (lw_at lw_m3 31 rfl) rfl
theorem q620 : (Jvm.Cond.methodLink "java/lang/IndexOutOfBoundsException" (7 : Nat) ({ cls := "java/lang/RuntimeException", name := "<init>", desc := "(Ljava/lang/String;)V" } : Jvm.MethodName)) ∈ lw_all := lw_g (lw_at lw_m3 32 rfl) rfl
theorem q621 : (Jvm.Cond.lays "java/lang/IndexOutOfBoundsException" "java/lang/Throwable" "depth" "I") ∈ lw_all := lw_g (lw_at lw_m3 33 rfl) rfl
theorem q622 : (Jvm.Cond.superclass "java/lang/IndexOutOfBoundsException" "java/lang/RuntimeException") ∈ lw_all := lw_g (lw_at lw_m3 34 rfl) rfl
theorem q728 : (Jvm.Cond.selects "java/lang/IndexOutOfBoundsException" ({ cls := "java/lang/Object", name := "getClass", desc := "()Ljava/lang/Class;" } : Jvm.MethodName) ({ cls := "java/lang/Object", name := "getClass", desc := "()Ljava/lang/Class;" } : Jvm.MethodName)) ∈ lw_all := lw_g (lw_at lw_m3 140 rfl) rfl
theorem q1236 : (Jvm.Cond.selects "java/lang/IndexOutOfBoundsException" ({ cls := "java/lang/Throwable", name := "toString", desc := "()Ljava/lang/String;" } : Jvm.MethodName) ({ cls := "java/lang/Throwable", name := "toString", desc := "()Ljava/lang/String;" } : Jvm.MethodName)) ∈ lw_all := lw_g (lw_at lw_m5 168 rfl) rfl
theorem q1247 : (Jvm.Cond.selects "java/lang/IndexOutOfBoundsException" ({ cls := "java/lang/Throwable", name := "getLocalizedMessage", desc := "()Ljava/lang/String;" } : Jvm.MethodName) ({ cls := "java/lang/Throwable", name := "getLocalizedMessage", desc := "()Ljava/lang/String;" } : Jvm.MethodName)) ∈ lw_all := lw_g (lw_at lw_m5 179 rfl) rfl
theorem q1257 : (Jvm.Cond.selects "java/lang/IndexOutOfBoundsException" ({ cls := "java/lang/Throwable", name := "getMessage", desc := "()Ljava/lang/String;" } : Jvm.MethodName) ({ cls := "java/lang/Throwable", name := "getMessage", desc := "()Ljava/lang/String;" } : Jvm.MethodName)) ∈ lw_all := lw_g (lw_at lw_m5 189 rfl) rfl
theorem q2282 : (Jvm.Cond.declares ({ cls := "java/lang/IndexOutOfBoundsException", name := "<init>", desc := "()V" } : Jvm.MethodName)) ∈ lw_tbl := lw_at lw_m10 14 rfl
theorem q2283 : (Jvm.Cond.declares ({ cls := "java/lang/IndexOutOfBoundsException", name := "<init>", desc := "(Ljava/lang/String;)V" } : Jvm.MethodName)) ∈ lw_tbl := lw_at lw_m10 15 rfl
theorem q2298 : (Jvm.Cond.instanceMethod ({ cls := "java/lang/IndexOutOfBoundsException", name := "<init>", desc := "()V" } : Jvm.MethodName)) ∈ lw_all := lw_g (lw_at lw_m10 30 rfl) rfl
theorem q2299 : (Jvm.Cond.code ({ cls := "java/lang/IndexOutOfBoundsException", name := "<init>", desc := "()V" } : Jvm.MethodName) prog_23_method_1_code (1 : Nat) (Option.none : Option Jvm.ClassFile.FieldType)) ∈ lw_all := lw_g (lw_at lw_m10 31 rfl) rfl
theorem q2300 : (Jvm.Cond.methodLink "java/lang/IndexOutOfBoundsException" (1 : Nat) ({ cls := "java/lang/RuntimeException", name := "<init>", desc := "()V" } : Jvm.MethodName)) ∈ lw_all := lw_g (lw_at lw_m10 32 rfl) rfl
theorem q2415 : (Jvm.Cond.selects "java/lang/IndexOutOfBoundsException" ({ cls := "java/lang/Object", name := "equals", desc := "(Ljava/lang/Object;)Z" } : Jvm.MethodName) ({ cls := "java/lang/Object", name := "equals", desc := "(Ljava/lang/Object;)Z" } : Jvm.MethodName)) ∈ lw_all := lw_g (lw_at lw_m10 147 rfl) rfl
theorem q3123 : (Jvm.Cond.castable "java/lang/IndexOutOfBoundsException" "java/lang/Object") ∈ lw_tbl := lw_at lw_m13 135 rfl
theorem q123 : (Jvm.Cond.initialized "java/lang/AbstractStringBuilder") ∈ lw_all := lw_g (lw_at lw_m1 15 rfl) rfl
theorem q354 : (Jvm.Cond.instanceMethod ({ cls := "java/lang/AbstractStringBuilder", name := "<init>", desc := "(I)V" } : Jvm.MethodName)) ∈ lw_all := lw_g (lw_at lw_m2 6 rfl) rfl
theorem q355 : (Jvm.Cond.code ({ cls := "java/lang/AbstractStringBuilder", name := "<init>", desc := "(I)V" } : Jvm.MethodName) prog_13_method_2_code (2 : Nat) (Option.none : Option Jvm.ClassFile.FieldType)) ∈ lw_all := lw_g (lw_at lw_m2 7 rfl) rfl
theorem q356 : (Jvm.Cond.methodLink "java/lang/AbstractStringBuilder" (3 : Nat) ({ cls := "java/lang/Object", name := "<init>", desc := "()V" } : Jvm.MethodName)) ∈ lw_all := lw_g (lw_at lw_m2 8 rfl) rfl
theorem q357 : (Jvm.Cond.fieldLink "java/lang/AbstractStringBuilder" (18 : Nat) "java/lang/String" "COMPACT_STRINGS" "Z") ∈ lw_all := lw_g (lw_at lw_m2 9 rfl) rfl
theorem q358 : (Jvm.Cond.methodLink "java/lang/AbstractStringBuilder" (26 : Nat) ({ cls := "java/lang/StringUTF16", name := "newBytesFor", desc := "(I)[B" } : Jvm.MethodName)) ∈ lw_all := lw_g (lw_at lw_m2 10 rfl) rfl
theorem q365 : (Jvm.Cond.fieldLink "java/lang/AbstractStringBuilder" (15 : Nat) "java/lang/AbstractStringBuilder" "value" "[B") ∈ lw_all := lw_g (lw_at lw_m2 17 rfl) rfl
theorem q366 : (Jvm.Cond.fieldLink "java/lang/AbstractStringBuilder" (22 : Nat) "java/lang/AbstractStringBuilder" "coder" "B") ∈ lw_all := lw_g (lw_at lw_m2 18 rfl) rfl
theorem q368 : (Jvm.Cond.fieldLink "java/lang/AbstractStringBuilder" (79 : Nat) "java/lang/AbstractStringBuilder" "count" "I") ∈ lw_all := lw_g (lw_at lw_m2 20 rfl) rfl
theorem q370 : (Jvm.Cond.soleField "java/lang/AbstractStringBuilder" "value") ∈ lw_all := lw_g (lw_at lw_m2 22 rfl) rfl
theorem q372 : (Jvm.Cond.soleField "java/lang/AbstractStringBuilder" "coder") ∈ lw_all := lw_g (lw_at lw_m2 24 rfl) rfl
theorem q374 : (Jvm.Cond.soleField "java/lang/AbstractStringBuilder" "maybeLatin1") ∈ lw_all := lw_g (lw_at lw_m2 26 rfl) rfl
theorem q376 : (Jvm.Cond.soleField "java/lang/AbstractStringBuilder" "count") ∈ lw_all := lw_g (lw_at lw_m2 28 rfl) rfl
theorem q385 : (Jvm.Cond.instanceMethod ({ cls := "java/lang/AbstractStringBuilder", name := "append", desc := "(Ljava/lang/String;)Ljava/lang/AbstractStringBuilder;" } : Jvm.MethodName)) ∈ lw_all := lw_g (lw_at lw_m2 37 rfl) rfl
theorem q386 : (Jvm.Cond.code ({ cls := "java/lang/AbstractStringBuilder", name := "append", desc := "(Ljava/lang/String;)Ljava/lang/AbstractStringBuilder;" } : Jvm.MethodName) prog_13_method_22_code (3 : Nat) (Option.some (Jvm.ClassFile.FieldType.object "java/lang/AbstractStringBuilder"))) ∈ lw_all := lw_g (lw_at lw_m2 38 rfl) rfl
theorem q387 : (Jvm.Cond.methodLink "java/lang/AbstractStringBuilder" (204 : Nat) ({ cls := "java/lang/AbstractStringBuilder", name := "appendNull", desc := "()Ljava/lang/AbstractStringBuilder;" } : Jvm.MethodName)) ∈ lw_all := lw_g (lw_at lw_m2 39 rfl) rfl
theorem q388 : (Jvm.Cond.privateMethod ({ cls := "java/lang/AbstractStringBuilder", name := "appendNull", desc := "()Ljava/lang/AbstractStringBuilder;" } : Jvm.MethodName)) ∈ lw_tbl := lw_at lw_m2 40 rfl
theorem q389 : (Jvm.Cond.instanceMethod ({ cls := "java/lang/AbstractStringBuilder", name := "appendNull", desc := "()Ljava/lang/AbstractStringBuilder;" } : Jvm.MethodName)) ∈ lw_all := lw_g (lw_at lw_m2 41 rfl) rfl
theorem q390 : (Jvm.Cond.code ({ cls := "java/lang/AbstractStringBuilder", name := "appendNull", desc := "()Ljava/lang/AbstractStringBuilder;" } : Jvm.MethodName) prog_13_method_26_code (3 : Nat) (Option.some (Jvm.ClassFile.FieldType.object "java/lang/AbstractStringBuilder"))) ∈ lw_all := lw_g (lw_at lw_m2 42 rfl) rfl
theorem q391 : (Jvm.Cond.methodLink "java/lang/AbstractStringBuilder" (100 : Nat) ({ cls := "java/lang/AbstractStringBuilder", name := "ensureCapacityInternal", desc := "(I)V" } : Jvm.MethodName)) ∈ lw_all := lw_g (lw_at lw_m2 43 rfl) rfl
theorem q392 : (Jvm.Cond.privateMethod ({ cls := "java/lang/AbstractStringBuilder", name := "ensureCapacityInternal", desc := "(I)V" } : Jvm.MethodName)) ∈ lw_tbl := lw_at lw_m2 44 rfl
theorem q393 : (Jvm.Cond.instanceMethod ({ cls := "java/lang/AbstractStringBuilder", name := "ensureCapacityInternal", desc := "(I)V" } : Jvm.MethodName)) ∈ lw_all := lw_g (lw_at lw_m2 45 rfl) rfl
theorem q394 : (Jvm.Cond.code ({ cls := "java/lang/AbstractStringBuilder", name := "ensureCapacityInternal", desc := "(I)V" } : Jvm.MethodName) prog_13_method_9_code (3 : Nat) (Option.none : Option Jvm.ClassFile.FieldType)) ∈ lw_all := lw_g (lw_at lw_m2 46 rfl) rfl
theorem q395 : (Jvm.Cond.methodLink "java/lang/AbstractStringBuilder" (104 : Nat) ({ cls := "java/lang/AbstractStringBuilder", name := "newCapacity", desc := "(I)I" } : Jvm.MethodName)) ∈ lw_all := lw_g (lw_at lw_m2 47 rfl) rfl
theorem q396 : (Jvm.Cond.privateMethod ({ cls := "java/lang/AbstractStringBuilder", name := "newCapacity", desc := "(I)I" } : Jvm.MethodName)) ∈ lw_tbl := lw_at lw_m2 48 rfl
theorem q397 : (Jvm.Cond.instanceMethod ({ cls := "java/lang/AbstractStringBuilder", name := "newCapacity", desc := "(I)I" } : Jvm.MethodName)) ∈ lw_all := lw_g (lw_at lw_m2 49 rfl) rfl
theorem q398 : (Jvm.Cond.code ({ cls := "java/lang/AbstractStringBuilder", name := "newCapacity", desc := "(I)I" } : Jvm.MethodName) prog_13_method_10_code (6 : Nat) (Option.some Jvm.ClassFile.FieldType.int)) ∈ lw_all := lw_g (lw_at lw_m2 50 rfl) rfl
theorem q399 : (Jvm.Cond.methodLink "java/lang/AbstractStringBuilder" (114 : Nat) ({ cls := "jdk/internal/util/ArraysSupport", name := "newLength", desc := "(III)I" } : Jvm.MethodName)) ∈ lw_all := lw_g (lw_at lw_m2 51 rfl) rfl
theorem q409 : (Jvm.Cond.constant "java/lang/AbstractStringBuilder" (39 : Nat) (2147483647 : Int32)) ∈ lw_all := lw_g (lw_at lw_m2 61 rfl) rfl
theorem q410 : (Jvm.Cond.methodLink "java/lang/AbstractStringBuilder" (108 : Nat) ({ cls := "java/util/Arrays", name := "copyOf", desc := "([BI)[B" } : Jvm.MethodName)) ∈ lw_all := lw_g (lw_at lw_m2 62 rfl) rfl
theorem q426 : (Jvm.Cond.methodLink "java/lang/AbstractStringBuilder" (83 : Nat) ({ cls := "java/lang/AbstractStringBuilder", name := "isLatin1", desc := "()Z" } : Jvm.MethodName)) ∈ lw_all := lw_g (lw_at lw_m2 78 rfl) rfl
theorem q427 : (Jvm.Cond.instanceMethod ({ cls := "java/lang/AbstractStringBuilder", name := "isLatin1", desc := "()Z" } : Jvm.MethodName)) ∈ lw_all := lw_g (lw_at lw_m2 79 rfl) rfl
theorem q428 : (Jvm.Cond.sameMethod "java/lang/AbstractStringBuilder" "java/lang/AbstractStringBuilder" "isLatin1" "()Z") ∈ lw_all := lw_g (lw_at lw_m2 80 rfl) rfl
theorem q430 : (Jvm.Cond.code ({ cls := "java/lang/AbstractStringBuilder", name := "isLatin1", desc := "()Z" } : Jvm.MethodName) prog_13_method_68_code (1 : Nat) (Option.some Jvm.ClassFile.FieldType.boolean)) ∈ lw_all := lw_g (lw_at lw_m2 82 rfl) rfl
theorem q431 : (Jvm.Cond.methodLink "java/lang/AbstractStringBuilder" (226 : Nat) ({ cls := "java/lang/StringUTF16", name := "putCharsAt", desc := "([BICCCC)I" } : Jvm.MethodName)) ∈ lw_all := lw_g (lw_at lw_m2 83 rfl) rfl
theorem q457 : (Jvm.Cond.methodLink "java/lang/AbstractStringBuilder" (32 : Nat) ({ cls := "java/lang/String", name := "length", desc := "()I" } : Jvm.MethodName)) ∈ lw_all := lw_g (lw_at lw_m2 109 rfl) rfl
theorem q458 : (Jvm.Cond.methodLink "java/lang/AbstractStringBuilder" (208 : Nat) ({ cls := "java/lang/AbstractStringBuilder", name := "putStringAt", desc := "(ILjava/lang/String;)V" } : Jvm.MethodName)) ∈ lw_all := lw_g (lw_at lw_m2 110 rfl) rfl
theorem q459 : (Jvm.Cond.privateMethod ({ cls := "java/lang/AbstractStringBuilder", name := "putStringAt", desc := "(ILjava/lang/String;)V" } : Jvm.MethodName)) ∈ lw_tbl := lw_at lw_m2 111 rfl
theorem q460 : (Jvm.Cond.instanceMethod ({ cls := "java/lang/AbstractStringBuilder", name := "putStringAt", desc := "(ILjava/lang/String;)V" } : Jvm.MethodName)) ∈ lw_all := lw_g (lw_at lw_m2 112 rfl) rfl
theorem q461 : (Jvm.Cond.code ({ cls := "java/lang/AbstractStringBuilder", name := "putStringAt", desc := "(ILjava/lang/String;)V" } : Jvm.MethodName) prog_13_method_73_code (3 : Nat) (Option.none : Option Jvm.ClassFile.FieldType)) ∈ lw_all := lw_g (lw_at lw_m2 113 rfl) rfl
theorem q462 : (Jvm.Cond.methodLink "java/lang/AbstractStringBuilder" (397 : Nat) ({ cls := "java/lang/AbstractStringBuilder", name := "inflateIfNeededFor", desc := "(Ljava/lang/String;)V" } : Jvm.MethodName)) ∈ lw_all := lw_g (lw_at lw_m2 114 rfl) rfl
theorem q463 : (Jvm.Cond.privateMethod ({ cls := "java/lang/AbstractStringBuilder", name := "inflateIfNeededFor", desc := "(Ljava/lang/String;)V" } : Jvm.MethodName)) ∈ lw_tbl := lw_at lw_m2 115 rfl
theorem q464 : (Jvm.Cond.instanceMethod ({ cls := "java/lang/AbstractStringBuilder", name := "inflateIfNeededFor", desc := "(Ljava/lang/String;)V" } : Jvm.MethodName)) ∈ lw_all := lw_g (lw_at lw_m2 116 rfl) rfl
theorem q465 : (Jvm.Cond.code ({ cls := "java/lang/AbstractStringBuilder", name := "inflateIfNeededFor", desc := "(Ljava/lang/String;)V" } : Jvm.MethodName) prog_13_method_71_code (2 : Nat) (Option.none : Option Jvm.ClassFile.FieldType)) ∈ lw_all := lw_g (lw_at lw_m2 117 rfl) rfl
theorem q466 : (Jvm.Cond.methodLink "java/lang/AbstractStringBuilder" (40 : Nat) ({ cls := "java/lang/String", name := "coder", desc := "()B" } : Jvm.MethodName)) ∈ lw_all := lw_g (lw_at lw_m2 118 rfl) rfl
theorem q467 : (Jvm.Cond.methodLink "java/lang/AbstractStringBuilder" (195 : Nat) ({ cls := "java/lang/AbstractStringBuilder", name := "inflate", desc := "()V" } : Jvm.MethodName)) ∈ lw_all := lw_g (lw_at lw_m2 119 rfl) rfl
theorem q468 : (Jvm.Cond.privateMethod ({ cls := "java/lang/AbstractStringBuilder", name := "inflate", desc := "()V" } : Jvm.MethodName)) ∈ lw_tbl := lw_at lw_m2 120 rfl
theorem q469 : (Jvm.Cond.instanceMethod ({ cls := "java/lang/AbstractStringBuilder", name := "inflate", desc := "()V" } : Jvm.MethodName)) ∈ lw_all := lw_g (lw_at lw_m2 121 rfl) rfl
theorem q470 : (Jvm.Cond.code ({ cls := "java/lang/AbstractStringBuilder", name := "inflate", desc := "()V" } : Jvm.MethodName) prog_13_method_11_code (2 : Nat) (Option.none : Option Jvm.ClassFile.FieldType)) ∈ lw_all := lw_g (lw_at lw_m2 122 rfl) rfl
theorem q471 : (Jvm.Cond.methodLink "java/lang/AbstractStringBuilder" (125 : Nat) ({ cls := "java/lang/StringLatin1", name := "inflate", desc := "([BI[BII)V" } : Jvm.MethodName)) ∈ lw_all := lw_g (lw_at lw_m2 123 rfl) rfl
theorem q486 : (Jvm.Cond.methodLink "java/lang/AbstractStringBuilder" (399 : Nat) ({ cls := "java/lang/String", name := "getBytes", desc := "([BIB)V" } : Jvm.MethodName)) ∈ lw_all := lw_g (lw_at lw_m2 138 rfl) rfl
theorem q497 : (Jvm.Cond.instanceMethod ({ cls := "java/lang/AbstractStringBuilder", name := "append", desc := "(I)Ljava/lang/AbstractStringBuilder;" } : Jvm.MethodName)) ∈ lw_all := lw_g (lw_at lw_m2 149 rfl) rfl
theorem q498 : (Jvm.Cond.code ({ cls := "java/lang/AbstractStringBuilder", name := "append", desc := "(I)Ljava/lang/AbstractStringBuilder;" } : Jvm.MethodName) prog_13_method_32_code (4 : Nat) (Option.some (Jvm.ClassFile.FieldType.object "java/lang/AbstractStringBuilder"))) ∈ lw_all := lw_g (lw_at lw_m2 150 rfl) rfl
theorem q499 : (Jvm.Cond.methodLink "java/lang/AbstractStringBuilder" (245 : Nat) ({ cls := "java/lang/Integer", name := "stringSize", desc := "(I)I" } : Jvm.MethodName)) ∈ lw_all := lw_g (lw_at lw_m2 151 rfl) rfl
theorem q502 : (Jvm.Cond.methodLink "java/lang/AbstractStringBuilder" (248 : Nat) ({ cls := "java/lang/Integer", name := "getChars", desc := "(II[B)I" } : Jvm.MethodName)) ∈ lw_all := lw_g (lw_at lw_m2 154 rfl) rfl
theorem q509 : (Jvm.Cond.methodLink "java/lang/AbstractStringBuilder" (251 : Nat) ({ cls := "java/lang/StringUTF16", name := "getChars", desc := "(III[B)I" } : Jvm.MethodName)) ∈ lw_all := lw_g (lw_at lw_m2 161 rfl) rfl
theorem q531 : (Jvm.Cond.instanceMethod ({ cls := "java/lang/AbstractStringBuilder", name := "getValue", desc := "()[B" } : Jvm.MethodName)) ∈ lw_all := lw_g (lw_at lw_m2 183 rfl) rfl
theorem q532 : (Jvm.Cond.sameMethod "java/lang/AbstractStringBuilder" "java/lang/AbstractStringBuilder" "getValue" "()[B") ∈ lw_all := lw_g (lw_at lw_m2 184 rfl) rfl
theorem q534 : (Jvm.Cond.code ({ cls := "java/lang/AbstractStringBuilder", name := "getValue", desc := "()[B" } : Jvm.MethodName) prog_13_method_64_code (1 : Nat) (Option.some (Jvm.ClassFile.FieldType.array Jvm.ClassFile.FieldType.byte))) ∈ lw_all := lw_g (lw_at lw_m2 186 rfl) rfl
theorem q536 : (Jvm.Cond.instanceMethod ({ cls := "java/lang/AbstractStringBuilder", name := "length", desc := "()I" } : Jvm.MethodName)) ∈ lw_all := lw_g (lw_at lw_m2 188 rfl) rfl
theorem q537 : (Jvm.Cond.sameMethod "java/lang/AbstractStringBuilder" "java/lang/AbstractStringBuilder" "length" "()I") ∈ lw_all := lw_g (lw_at lw_m2 189 rfl) rfl
theorem q542 : (Jvm.Cond.code ({ cls := "java/lang/AbstractStringBuilder", name := "length", desc := "()I" } : Jvm.MethodName) prog_13_method_6_code (1 : Nat) (Option.some Jvm.ClassFile.FieldType.int)) ∈ lw_all := lw_g (lw_at lw_m2 194 rfl) rfl
theorem q3098 : (Jvm.Cond.sameMethod "java/lang/AbstractStringBuilder" "java/lang/AbstractStringBuilder" "append" "(Ljava/lang/String;)Ljava/lang/AbstractStringBuilder;") ∈ lw_all := lw_g (lw_at lw_m13 110 rfl) rfl
theorem q3099 : (Jvm.Cond.sameMethod "java/lang/AbstractStringBuilder" "java/lang/AbstractStringBuilder" "appendNull" "()Ljava/lang/AbstractStringBuilder;") ∈ lw_all := lw_g (lw_at lw_m13 111 rfl) rfl
theorem q3100 : (Jvm.Cond.sameMethod "java/lang/AbstractStringBuilder" "java/lang/AbstractStringBuilder" "ensureCapacityInternal" "(I)V") ∈ lw_all := lw_g (lw_at lw_m13 112 rfl) rfl
theorem q3101 : (Jvm.Cond.sameMethod "java/lang/AbstractStringBuilder" "java/lang/AbstractStringBuilder" "newCapacity" "(I)I") ∈ lw_all := lw_g (lw_at lw_m13 113 rfl) rfl
theorem q3102 : (Jvm.Cond.sameMethod "java/lang/AbstractStringBuilder" "java/lang/AbstractStringBuilder" "putStringAt" "(ILjava/lang/String;)V") ∈ lw_all := lw_g (lw_at lw_m13 114 rfl) rfl
theorem q3103 : (Jvm.Cond.sameMethod "java/lang/AbstractStringBuilder" "java/lang/AbstractStringBuilder" "inflateIfNeededFor" "(Ljava/lang/String;)V") ∈ lw_all := lw_g (lw_at lw_m13 115 rfl) rfl
theorem q3104 : (Jvm.Cond.sameMethod "java/lang/AbstractStringBuilder" "java/lang/AbstractStringBuilder" "inflate" "()V") ∈ lw_all := lw_g (lw_at lw_m13 116 rfl) rfl
theorem q3105 : (Jvm.Cond.sameMethod "java/lang/AbstractStringBuilder" "java/lang/AbstractStringBuilder" "append" "(I)Ljava/lang/AbstractStringBuilder;") ∈ lw_all := lw_g (lw_at lw_m13 117 rfl) rfl
theorem q124 : (Jvm.Cond.initialized "java/lang/StringBuilder") ∈ lw_all := lw_g (lw_at lw_m1 16 rfl) rfl
theorem q349 : (Jvm.Cond.instantiable "java/lang/StringBuilder" (4 : Nat)) ∈ lw_all := lw_g (lw_at lw_m2 1 rfl) rfl
theorem q351 : (Jvm.Cond.instanceMethod ({ cls := "java/lang/StringBuilder", name := "<init>", desc := "()V" } : Jvm.MethodName)) ∈ lw_all := lw_g (lw_at lw_m2 3 rfl) rfl
theorem q352 : (Jvm.Cond.code ({ cls := "java/lang/StringBuilder", name := "<init>", desc := "()V" } : Jvm.MethodName) prog_31_method_1_code (1 : Nat) (Option.none : Option Jvm.ClassFile.FieldType)) ∈ lw_all := lw_g (lw_at lw_m2 4 rfl) rfl
theorem q353 : (Jvm.Cond.methodLink "java/lang/StringBuilder" (1 : Nat) ({ cls := "java/lang/AbstractStringBuilder", name := "<init>", desc := "(I)V" } : Jvm.MethodName)) ∈ lw_all := lw_g (lw_at lw_m2 5 rfl) rfl
theorem q369 : (Jvm.Cond.lays "java/lang/StringBuilder" "java/lang/AbstractStringBuilder" "value" "[B") ∈ lw_all := lw_g (lw_at lw_m2 21 rfl) rfl
theorem q371 : (Jvm.Cond.lays "java/lang/StringBuilder" "java/lang/AbstractStringBuilder" "coder" "B") ∈ lw_all := lw_g (lw_at lw_m2 23 rfl) rfl
theorem q373 : (Jvm.Cond.lays "java/lang/StringBuilder" "java/lang/AbstractStringBuilder" "maybeLatin1" "Z") ∈ lw_all := lw_g (lw_at lw_m2 25 rfl) rfl
theorem q375 : (Jvm.Cond.lays "java/lang/StringBuilder" "java/lang/AbstractStringBuilder" "count" "I") ∈ lw_all := lw_g (lw_at lw_m2 27 rfl) rfl
theorem q377 : (Jvm.Cond.superclass "java/lang/StringBuilder" "java/lang/AbstractStringBuilder") ∈ lw_all := lw_g (lw_at lw_m2 29 rfl) rfl
theorem q381 : (Jvm.Cond.instanceMethod ({ cls := "java/lang/StringBuilder", name := "append", desc := "(Ljava/lang/String;)Ljava/lang/StringBuilder;" } : Jvm.MethodName)) ∈ lw_all := lw_g (lw_at lw_m2 33 rfl) rfl
theorem q382 : (Jvm.Cond.selects "java/lang/StringBuilder" ({ cls := "java/lang/StringBuilder", name := "append", desc := "(Ljava/lang/String;)Ljava/lang/StringBuilder;" } : Jvm.MethodName) ({ cls := "java/lang/StringBuilder", name := "append", desc := "(Ljava/lang/String;)Ljava/lang/StringBuilder;" } : Jvm.MethodName)) ∈ lw_all := lw_g (lw_at lw_m2 34 rfl) rfl
theorem q383 : (Jvm.Cond.code ({ cls := "java/lang/StringBuilder", name := "append", desc := "(Ljava/lang/String;)Ljava/lang/StringBuilder;" } : Jvm.MethodName) prog_31_method_7_code (2 : Nat) (Option.some (Jvm.ClassFile.FieldType.object "java/lang/StringBuilder"))) ∈ lw_all := lw_g (lw_at lw_m2 35 rfl) rfl
theorem q384 : (Jvm.Cond.methodLink "java/lang/StringBuilder" (29 : Nat) ({ cls := "java/lang/AbstractStringBuilder", name := "append", desc := "(Ljava/lang/String;)Ljava/lang/AbstractStringBuilder;" } : Jvm.MethodName)) ∈ lw_all := lw_g (lw_at lw_m2 36 rfl) rfl
theorem q429 : (Jvm.Cond.selects "java/lang/StringBuilder" ({ cls := "java/lang/AbstractStringBuilder", name := "isLatin1", desc := "()Z" } : Jvm.MethodName) ({ cls := "java/lang/AbstractStringBuilder", name := "isLatin1", desc := "()Z" } : Jvm.MethodName)) ∈ lw_all := lw_g (lw_at lw_m2 81 rfl) rfl
theorem q493 : (Jvm.Cond.instanceMethod ({ cls := "java/lang/StringBuilder", name := "append", desc := "(I)Ljava/lang/StringBuilder;" } : Jvm.MethodName)) ∈ lw_all := lw_g (lw_at lw_m2 145 rfl) rfl
theorem q494 : (Jvm.Cond.selects "java/lang/StringBuilder" ({ cls := "java/lang/StringBuilder", name := "append", desc := "(I)Ljava/lang/StringBuilder;" } : Jvm.MethodName) ({ cls := "java/lang/StringBuilder", name := "append", desc := "(I)Ljava/lang/StringBuilder;" } : Jvm.MethodName)) ∈ lw_all := lw_g (lw_at lw_m2 146 rfl) rfl
theorem q495 : (Jvm.Cond.code ({ cls := "java/lang/StringBuilder", name := "append", desc := "(I)Ljava/lang/StringBuilder;" } : Jvm.MethodName) prog_31_method_15_code (2 : Nat) (Option.some (Jvm.ClassFile.FieldType.object "java/lang/StringBuilder"))) ∈ lw_all := lw_g (lw_at lw_m2 147 rfl) rfl
theorem q496 : (Jvm.Cond.methodLink "java/lang/StringBuilder" (53 : Nat) ({ cls := "java/lang/AbstractStringBuilder", name := "append", desc := "(I)Ljava/lang/AbstractStringBuilder;" } : Jvm.MethodName)) ∈ lw_all := lw_g (lw_at lw_m2 148 rfl) rfl
theorem q518 : (Jvm.Cond.instanceMethod ({ cls := "java/lang/StringBuilder", name := "toString", desc := "()Ljava/lang/String;" } : Jvm.MethodName)) ∈ lw_all := lw_g (lw_at lw_m2 170 rfl) rfl
theorem q519 : (Jvm.Cond.selects "java/lang/StringBuilder" ({ cls := "java/lang/StringBuilder", name := "toString", desc := "()Ljava/lang/String;" } : Jvm.MethodName) ({ cls := "java/lang/StringBuilder", name := "toString", desc := "()Ljava/lang/String;" } : Jvm.MethodName)) ∈ lw_all := lw_g (lw_at lw_m2 171 rfl) rfl
theorem q520 : (Jvm.Cond.code ({ cls := "java/lang/StringBuilder", name := "toString", desc := "()Ljava/lang/String;" } : Jvm.MethodName) prog_31_method_42_code (1 : Nat) (Option.some (Jvm.ClassFile.FieldType.object "java/lang/String"))) ∈ lw_all := lw_g (lw_at lw_m2 172 rfl) rfl
theorem q521 : (Jvm.Cond.classLink "java/lang/StringBuilder" (18 : Nat) "java/lang/String") ∈ lw_all := lw_g (lw_at lw_m2 173 rfl) rfl
theorem q523 : (Jvm.Cond.methodLink "java/lang/StringBuilder" (137 : Nat) ({ cls := "java/lang/String", name := "<init>", desc := "(Ljava/lang/StringBuilder;)V" } : Jvm.MethodName)) ∈ lw_all := lw_g (lw_at lw_m2 175 rfl) rfl
theorem q533 : (Jvm.Cond.selects "java/lang/StringBuilder" ({ cls := "java/lang/AbstractStringBuilder", name := "getValue", desc := "()[B" } : Jvm.MethodName) ({ cls := "java/lang/AbstractStringBuilder", name := "getValue", desc := "()[B" } : Jvm.MethodName)) ∈ lw_all := lw_g (lw_at lw_m2 185 rfl) rfl
theorem q538 : (Jvm.Cond.selects "java/lang/StringBuilder" ({ cls := "java/lang/AbstractStringBuilder", name := "length", desc := "()I" } : Jvm.MethodName) ({ cls := "java/lang/StringBuilder", name := "length", desc := "()I" } : Jvm.MethodName)) ∈ lw_all := lw_g (lw_at lw_m2 190 rfl) rfl
theorem q539 : (Jvm.Cond.instanceMethod ({ cls := "java/lang/StringBuilder", name := "length", desc := "()I" } : Jvm.MethodName)) ∈ lw_all := lw_g (lw_at lw_m2 191 rfl) rfl
theorem q540 : (Jvm.Cond.code ({ cls := "java/lang/StringBuilder", name := "length", desc := "()I" } : Jvm.MethodName) prog_31_method_93_code (1 : Nat) (Option.some Jvm.ClassFile.FieldType.int)) ∈ lw_all := lw_g (lw_at lw_m2 192 rfl) rfl
theorem q541 : (Jvm.Cond.methodLink "java/lang/StringBuilder" (343 : Nat) ({ cls := "java/lang/AbstractStringBuilder", name := "length", desc := "()I" } : Jvm.MethodName)) ∈ lw_all := lw_g (lw_at lw_m2 193 rfl) rfl
theorem q731 : (Jvm.Cond.selects "java/lang/StringBuilder" ({ cls := "java/lang/Object", name := "getClass", desc := "()Ljava/lang/Class;" } : Jvm.MethodName) ({ cls := "java/lang/Object", name := "getClass", desc := "()Ljava/lang/Class;" } : Jvm.MethodName)) ∈ lw_all := lw_g (lw_at lw_m3 143 rfl) rfl
theorem q2427 : (Jvm.Cond.selects "java/lang/StringBuilder" ({ cls := "java/lang/Object", name := "equals", desc := "(Ljava/lang/Object;)Z" } : Jvm.MethodName) ({ cls := "java/lang/Object", name := "equals", desc := "(Ljava/lang/Object;)Z" } : Jvm.MethodName)) ∈ lw_all := lw_g (lw_at lw_m10 159 rfl) rfl
theorem q3124 : (Jvm.Cond.castable "java/lang/StringBuilder" "java/lang/Object") ∈ lw_tbl := lw_at lw_m13 136 rfl
theorem q125 : (Jvm.Cond.initialized "java/lang/StringUTF16") ∈ lw_all := lw_g (lw_at lw_m1 17 rfl) rfl
theorem q359 : (Jvm.Cond.static ({ cls := "java/lang/StringUTF16", name := "newBytesFor", desc := "(I)[B" } : Jvm.MethodName)) ∈ lw_all := lw_g (lw_at lw_m2 11 rfl) rfl
theorem q360 : (Jvm.Cond.code ({ cls := "java/lang/StringUTF16", name := "newBytesFor", desc := "(I)[B" } : Jvm.MethodName) prog_33_method_2_code (1 : Nat) (Option.some (Jvm.ClassFile.FieldType.array Jvm.ClassFile.FieldType.byte))) ∈ lw_all := lw_g (lw_at lw_m2 12 rfl) rfl
theorem q361 : (Jvm.Cond.methodLink "java/lang/StringUTF16" (11 : Nat) ({ cls := "java/lang/StringUTF16", name := "newBytesLength", desc := "(I)I" } : Jvm.MethodName)) ∈ lw_all := lw_g (lw_at lw_m2 13 rfl) rfl
theorem q362 : (Jvm.Cond.static ({ cls := "java/lang/StringUTF16", name := "newBytesLength", desc := "(I)I" } : Jvm.MethodName)) ∈ lw_all := lw_g (lw_at lw_m2 14 rfl) rfl
theorem q363 : (Jvm.Cond.code ({ cls := "java/lang/StringUTF16", name := "newBytesLength", desc := "(I)I" } : Jvm.MethodName) prog_33_method_3_code (1 : Nat) (Option.some Jvm.ClassFile.FieldType.int)) ∈ lw_all := lw_g (lw_at lw_m2 15 rfl) rfl
theorem q364 : (Jvm.Cond.constant "java/lang/StringUTF16" (20 : Nat) (1073741823 : Int32)) ∈ lw_all := lw_g (lw_at lw_m2 16 rfl) rfl
theorem q432 : (Jvm.Cond.static ({ cls := "java/lang/StringUTF16", name := "putCharsAt", desc := "([BICCCC)I" } : Jvm.MethodName)) ∈ lw_all := lw_g (lw_at lw_m2 84 rfl) rfl
theorem q433 : (Jvm.Cond.code ({ cls := "java/lang/StringUTF16", name := "putCharsAt", desc := "([BICCCC)I" } : Jvm.MethodName) prog_33_method_81_code (7 : Nat) (Option.some Jvm.ClassFile.FieldType.int)) ∈ lw_all := lw_g (lw_at lw_m2 85 rfl) rfl
theorem q434 : (Jvm.Cond.methodLink "java/lang/StringUTF16" (96 : Nat) ({ cls := "java/lang/StringUTF16", name := "checkBoundsBeginEnd", desc := "(II[B)V" } : Jvm.MethodName)) ∈ lw_all := lw_g (lw_at lw_m2 86 rfl) rfl
theorem q435 : (Jvm.Cond.static ({ cls := "java/lang/StringUTF16", name := "checkBoundsBeginEnd", desc := "(II[B)V" } : Jvm.MethodName)) ∈ lw_all := lw_g (lw_at lw_m2 87 rfl) rfl
theorem q436 : (Jvm.Cond.code ({ cls := "java/lang/StringUTF16", name := "checkBoundsBeginEnd", desc := "(II[B)V" } : Jvm.MethodName) prog_33_method_93_code (3 : Nat) (Option.none : Option Jvm.ClassFile.FieldType)) ∈ lw_all := lw_g (lw_at lw_m2 88 rfl) rfl
theorem q437 : (Jvm.Cond.methodLink "java/lang/StringUTF16" (48 : Nat) ({ cls := "java/lang/StringUTF16", name := "length", desc := "([B)I" } : Jvm.MethodName)) ∈ lw_all := lw_g (lw_at lw_m2 89 rfl) rfl
theorem q438 : (Jvm.Cond.static ({ cls := "java/lang/StringUTF16", name := "length", desc := "([B)I" } : Jvm.MethodName)) ∈ lw_all := lw_g (lw_at lw_m2 90 rfl) rfl
theorem q439 : (Jvm.Cond.code ({ cls := "java/lang/StringUTF16", name := "length", desc := "([B)I" } : Jvm.MethodName) prog_33_method_6_code (1 : Nat) (Option.some Jvm.ClassFile.FieldType.int)) ∈ lw_all := lw_g (lw_at lw_m2 91 rfl) rfl
theorem q440 : (Jvm.Cond.methodLink "java/lang/StringUTF16" (241 : Nat) ({ cls := "java/lang/String", name := "checkBoundsBeginEnd", desc := "(III)V" } : Jvm.MethodName)) ∈ lw_all := lw_g (lw_at lw_m2 92 rfl) rfl
theorem q448 : (Jvm.Cond.methodLink "java/lang/StringUTF16" (111 : Nat) ({ cls := "java/lang/StringUTF16", name := "putChar", desc := "([BII)V" } : Jvm.MethodName)) ∈ lw_all := lw_g (lw_at lw_m2 100 rfl) rfl
theorem q449 : (Jvm.Cond.static ({ cls := "java/lang/StringUTF16", name := "putChar", desc := "([BII)V" } : Jvm.MethodName)) ∈ lw_all := lw_g (lw_at lw_m2 101 rfl) rfl
theorem q450 : (Jvm.Cond.code ({ cls := "java/lang/StringUTF16", name := "putChar", desc := "([BII)V" } : Jvm.MethodName) prog_33_method_4_code (3 : Nat) (Option.none : Option Jvm.ClassFile.FieldType)) ∈ lw_all := lw_g (lw_at lw_m2 102 rfl) rfl
theorem q451 : (Jvm.Cond.fieldLink "java/lang/StringUTF16" (44 : Nat) "java/lang/StringUTF16" "$assertionsDisabled" "Z") ∈ lw_all := lw_g (lw_at lw_m2 103 rfl) rfl
theorem q452 : (Jvm.Cond.laysStatic "java/lang/StringUTF16" "$assertionsDisabled" "Z") ∈ lw_tbl := lw_at lw_m2 104 rfl
theorem q453 : (Jvm.Cond.fieldLink "java/lang/StringUTF16" (59 : Nat) "java/lang/StringUTF16" "HI_BYTE_SHIFT" "I") ∈ lw_all := lw_g (lw_at lw_m2 105 rfl) rfl
theorem q454 : (Jvm.Cond.laysStatic "java/lang/StringUTF16" "HI_BYTE_SHIFT" "I") ∈ lw_tbl := lw_at lw_m2 106 rfl
theorem q455 : (Jvm.Cond.fieldLink "java/lang/StringUTF16" (63 : Nat) "java/lang/StringUTF16" "LO_BYTE_SHIFT" "I") ∈ lw_all := lw_g (lw_at lw_m2 107 rfl) rfl
theorem q456 : (Jvm.Cond.laysStatic "java/lang/StringUTF16" "LO_BYTE_SHIFT" "I") ∈ lw_tbl := lw_at lw_m2 108 rfl
theorem q475 : (Jvm.Cond.static ({ cls := "java/lang/StringUTF16", name := "inflate", desc := "([BI[BII)V" } : Jvm.MethodName)) ∈ lw_all := lw_g (lw_at lw_m2 127 rfl) rfl
theorem q476 : (Jvm.Cond.code ({ cls := "java/lang/StringUTF16", name := "inflate", desc := "([BI[BII)V" } : Jvm.MethodName) prog_33_method_86_code (6 : Nat) (Option.none : Option Jvm.ClassFile.FieldType)) ∈ lw_all := lw_g (lw_at lw_m2 128 rfl) rfl
theorem q477 : (Jvm.Cond.methodLink "java/lang/StringUTF16" (173 : Nat) ({ cls := "java/lang/StringUTF16", name := "checkBoundsOffCount", desc := "(II[B)V" } : Jvm.MethodName)) ∈ lw_all := lw_g (lw_at lw_m2 129 rfl) rfl
theorem q478 : (Jvm.Cond.static ({ cls := "java/lang/StringUTF16", name := "checkBoundsOffCount", desc := "(II[B)V" } : Jvm.MethodName)) ∈ lw_all := lw_g (lw_at lw_m2 130 rfl) rfl
theorem q479 : (Jvm.Cond.code ({ cls := "java/lang/StringUTF16", name := "checkBoundsOffCount", desc := "(II[B)V" } : Jvm.MethodName) prog_33_method_94_code (3 : Nat) (Option.none : Option Jvm.ClassFile.FieldType)) ∈ lw_all := lw_g (lw_at lw_m2 131 rfl) rfl
theorem q480 : (Jvm.Cond.methodLink "java/lang/StringUTF16" (419 : Nat) ({ cls := "java/lang/String", name := "checkBoundsOffCount", desc := "(III)I" } : Jvm.MethodName)) ∈ lw_all := lw_g (lw_at lw_m2 132 rfl) rfl
theorem q510 : (Jvm.Cond.static ({ cls := "java/lang/StringUTF16", name := "getChars", desc := "(III[B)I" } : Jvm.MethodName)) ∈ lw_all := lw_g (lw_at lw_m2 162 rfl) rfl
theorem q511 : (Jvm.Cond.code ({ cls := "java/lang/StringUTF16", name := "getChars", desc := "(III[B)I" } : Jvm.MethodName) prog_33_method_77_code (5 : Nat) (Option.some Jvm.ClassFile.FieldType.int)) ∈ lw_all := lw_g (lw_at lw_m2 163 rfl) rfl
theorem q512 : (Jvm.Cond.methodLink "java/lang/StringUTF16" (393 : Nat) ({ cls := "java/lang/StringUTF16", name := "getChars", desc := "(II[B)I" } : Jvm.MethodName)) ∈ lw_all := lw_g (lw_at lw_m2 164 rfl) rfl
theorem q513 : (Jvm.Cond.static ({ cls := "java/lang/StringUTF16", name := "getChars", desc := "(II[B)I" } : Jvm.MethodName)) ∈ lw_all := lw_g (lw_at lw_m2 165 rfl) rfl
theorem q514 : (Jvm.Cond.code ({ cls := "java/lang/StringUTF16", name := "getChars", desc := "(II[B)I" } : Jvm.MethodName) prog_33_method_89_code (7 : Nat) (Option.some Jvm.ClassFile.FieldType.int)) ∈ lw_all := lw_g (lw_at lw_m2 166 rfl) rfl
theorem q515 : (Jvm.Cond.fieldLink "java/lang/StringUTF16" (403 : Nat) "java/lang/Integer" "DigitOnes" "[B") ∈ lw_all := lw_g (lw_at lw_m2 167 rfl) rfl
theorem q516 : (Jvm.Cond.fieldLink "java/lang/StringUTF16" (407 : Nat) "java/lang/Integer" "DigitTens" "[B") ∈ lw_all := lw_g (lw_at lw_m2 168 rfl) rfl
theorem q594 : (Jvm.Cond.static ({ cls := "java/lang/StringUTF16", name := "compress", desc := "([BII)[B" } : Jvm.MethodName)) ∈ lw_all := lw_g (lw_at lw_m3 6 rfl) rfl
theorem q595 : (Jvm.Cond.code ({ cls := "java/lang/StringUTF16", name := "compress", desc := "([BII)[B" } : Jvm.MethodName) prog_33_method_17_code (6 : Nat) (Option.some (Jvm.ClassFile.FieldType.array Jvm.ClassFile.FieldType.byte))) ∈ lw_all := lw_g (lw_at lw_m3 7 rfl) rfl
theorem q596 : (Jvm.Cond.methodLink "java/lang/StringUTF16" (123 : Nat) ({ cls := "java/lang/StringUTF16", name := "compress", desc := "([BI[BII)I" } : Jvm.MethodName)) ∈ lw_all := lw_g (lw_at lw_m3 8 rfl) rfl
theorem q597 : (Jvm.Cond.static ({ cls := "java/lang/StringUTF16", name := "compress", desc := "([BI[BII)I" } : Jvm.MethodName)) ∈ lw_all := lw_g (lw_at lw_m3 9 rfl) rfl
theorem q598 : (Jvm.Cond.code ({ cls := "java/lang/StringUTF16", name := "compress", desc := "([BI[BII)I" } : Jvm.MethodName) prog_33_method_22_code (7 : Nat) (Option.some Jvm.ClassFile.FieldType.int)) ∈ lw_all := lw_g (lw_at lw_m3 10 rfl) rfl
theorem q599 : (Jvm.Cond.methodLink "java/lang/StringUTF16" (71 : Nat) ({ cls := "java/lang/StringUTF16", name := "getChar", desc := "([BI)C" } : Jvm.MethodName)) ∈ lw_all := lw_g (lw_at lw_m3 11 rfl) rfl
theorem q600 : (Jvm.Cond.static ({ cls := "java/lang/StringUTF16", name := "getChar", desc := "([BI)C" } : Jvm.MethodName)) ∈ lw_all := lw_g (lw_at lw_m3 12 rfl) rfl
theorem q601 : (Jvm.Cond.code ({ cls := "java/lang/StringUTF16", name := "getChar", desc := "([BI)C" } : Jvm.MethodName) prog_33_method_5_code (2 : Nat) (Option.some Jvm.ClassFile.FieldType.char)) ∈ lw_all := lw_g (lw_at lw_m3 13 rfl) rfl
theorem q602 : (Jvm.Cond.methodLink "java/lang/StringUTF16" (126 : Nat) ({ cls := "java/util/Arrays", name := "copyOfRange", desc := "([BII)[B" } : Jvm.MethodName)) ∈ lw_all := lw_g (lw_at lw_m3 14 rfl) rfl
theorem q604 : (Jvm.Cond.static ({ cls := "java/lang/StringUTF16", name := "coderFromArrayLen", desc := "([BI)B" } : Jvm.MethodName)) ∈ lw_all := lw_g (lw_at lw_m3 16 rfl) rfl
theorem q605 : (Jvm.Cond.code ({ cls := "java/lang/StringUTF16", name := "coderFromArrayLen", desc := "([BI)B" } : Jvm.MethodName) prog_33_method_15_code (2 : Nat) (Option.some Jvm.ClassFile.FieldType.byte)) ∈ lw_all := lw_g (lw_at lw_m3 17 rfl) rfl
theorem q1924 : (Jvm.Cond.static ({ cls := "java/lang/StringUTF16", name := "indexOf", desc := "([BIII)I" } : Jvm.MethodName)) ∈ lw_all := lw_g (lw_at lw_m8 136 rfl) rfl
theorem q1925 : (Jvm.Cond.code ({ cls := "java/lang/StringUTF16", name := "indexOf", desc := "([BIII)I" } : Jvm.MethodName) prog_33_method_40_code (4 : Nat) (Option.some Jvm.ClassFile.FieldType.int)) ∈ lw_all := lw_g (lw_at lw_m8 137 rfl) rfl
theorem q1926 : (Jvm.Cond.methodLink "java/lang/StringUTF16" (224 : Nat) ({ cls := "java/lang/Math", name := "max", desc := "(II)I" } : Jvm.MethodName)) ∈ lw_all := lw_g (lw_at lw_m8 138 rfl) rfl
theorem q1927 : (Jvm.Cond.methodLink "java/lang/StringUTF16" (183 : Nat) ({ cls := "java/lang/Math", name := "min", desc := "(II)I" } : Jvm.MethodName)) ∈ lw_all := lw_g (lw_at lw_m8 139 rfl) rfl
theorem q1928 : (Jvm.Cond.constant "java/lang/StringUTF16" (227 : Nat) (65536 : Int32)) ∈ lw_all := lw_g (lw_at lw_m8 140 rfl) rfl
theorem q1929 : (Jvm.Cond.methodLink "java/lang/StringUTF16" (228 : Nat) ({ cls := "java/lang/StringUTF16", name := "indexOfChar", desc := "([BIII)I" } : Jvm.MethodName)) ∈ lw_all := lw_g (lw_at lw_m8 141 rfl) rfl
theorem q1930 : (Jvm.Cond.static ({ cls := "java/lang/StringUTF16", name := "indexOfChar", desc := "([BIII)I" } : Jvm.MethodName)) ∈ lw_all := lw_g (lw_at lw_m8 142 rfl) rfl
theorem q1931 : (Jvm.Cond.code ({ cls := "java/lang/StringUTF16", name := "indexOfChar", desc := "([BIII)I" } : Jvm.MethodName) prog_33_method_47_code (4 : Nat) (Option.some Jvm.ClassFile.FieldType.int)) ∈ lw_all := lw_g (lw_at lw_m8 143 rfl) rfl
theorem q1932 : (Jvm.Cond.methodLink "java/lang/StringUTF16" (244 : Nat) ({ cls := "java/lang/StringUTF16", name := "indexOfCharUnsafe", desc := "([BIII)I" } : Jvm.MethodName)) ∈ lw_all := lw_g (lw_at lw_m8 144 rfl) rfl
theorem q1933 : (Jvm.Cond.static ({ cls := "java/lang/StringUTF16", name := "indexOfCharUnsafe", desc := "([BIII)I" } : Jvm.MethodName)) ∈ lw_all := lw_g (lw_at lw_m8 145 rfl) rfl
theorem q1934 : (Jvm.Cond.code ({ cls := "java/lang/StringUTF16", name := "indexOfCharUnsafe", desc := "([BIII)I" } : Jvm.MethodName) prog_33_method_48_code (5 : Nat) (Option.some Jvm.ClassFile.FieldType.int)) ∈ lw_all := lw_g (lw_at lw_m8 146 rfl) rfl
theorem q1935 : (Jvm.Cond.methodLink "java/lang/StringUTF16" (232 : Nat) ({ cls := "java/lang/StringUTF16", name := "indexOfSupplementary", desc := "([BIII)I" } : Jvm.MethodName)) ∈ lw_all := lw_g (lw_at lw_m8 147 rfl) rfl
theorem q1936 : (Jvm.Cond.static ({ cls := "java/lang/StringUTF16", name := "indexOfSupplementary", desc := "([BIII)I" } : Jvm.MethodName)) ∈ lw_all := lw_g (lw_at lw_m8 148 rfl) rfl
theorem q1937 : (Jvm.Cond.code ({ cls := "java/lang/StringUTF16", name := "indexOfSupplementary", desc := "([BIII)I" } : Jvm.MethodName) prog_33_method_49_code (7 : Nat) (Option.some Jvm.ClassFile.FieldType.int)) ∈ lw_all := lw_g (lw_at lw_m8 149 rfl) rfl
theorem q1938 : (Jvm.Cond.methodLink "java/lang/StringUTF16" (164 : Nat) ({ cls := "java/lang/Character", name := "isValidCodePoint", desc := "(I)Z" } : Jvm.MethodName)) ∈ lw_all := lw_g (lw_at lw_m8 150 rfl) rfl
theorem q1941 : (Jvm.Cond.methodLink "java/lang/StringUTF16" (157 : Nat) ({ cls := "java/lang/Character", name := "highSurrogate", desc := "(I)C" } : Jvm.MethodName)) ∈ lw_all := lw_g (lw_at lw_m8 153 rfl) rfl
theorem q1945 : (Jvm.Cond.methodLink "java/lang/StringUTF16" (161 : Nat) ({ cls := "java/lang/Character", name := "lowSurrogate", desc := "(I)C" } : Jvm.MethodName)) ∈ lw_all := lw_g (lw_at lw_m8 157 rfl) rfl
theorem q132 : (Jvm.Cond.initialized "java/lang/Number") ∈ lw_all := lw_g (lw_at lw_m1 24 rfl) rfl
theorem q670 : (Jvm.Cond.instanceMethod ({ cls := "java/lang/Number", name := "<init>", desc := "()V" } : Jvm.MethodName)) ∈ lw_all := lw_g (lw_at lw_m3 82 rfl) rfl
theorem q671 : (Jvm.Cond.code ({ cls := "java/lang/Number", name := "<init>", desc := "()V" } : Jvm.MethodName) prog_28_method_1_code (1 : Nat) (Option.none : Option Jvm.ClassFile.FieldType)) ∈ lw_all := lw_g (lw_at lw_m3 83 rfl) rfl
theorem q672 : (Jvm.Cond.methodLink "java/lang/Number" (1 : Nat) ({ cls := "java/lang/Object", name := "<init>", desc := "()V" } : Jvm.MethodName)) ∈ lw_all := lw_g (lw_at lw_m3 84 rfl) rfl
theorem q134 : (Jvm.Cond.initialized "java/lang/IllegalArgumentException") ∈ lw_all := lw_g (lw_at lw_m1 26 rfl) rfl
theorem q338 : (Jvm.Cond.selects "java/lang/IllegalArgumentException" ({ cls := "java/lang/Throwable", name := "fillInStackTrace", desc := "()Ljava/lang/Throwable;" } : Jvm.MethodName) ({ cls := "java/lang/Throwable", name := "fillInStackTrace", desc := "()Ljava/lang/Throwable;" } : Jvm.MethodName)) ∈ lw_all := lw_g (lw_at lw_m1 230 rfl) rfl
theorem q554 : (Jvm.Cond.instantiable "java/lang/IllegalArgumentException" (6 : Nat)) ∈ lw_all := lw_g (lw_at lw_m2 206 rfl) rfl
theorem q555 : (Jvm.Cond.castable "java/lang/IllegalArgumentException" "java/lang/IllegalArgumentException") ∈ lw_tbl := lw_at lw_m2 207 rfl
theorem q556 : (Jvm.Cond.selects "java/lang/IllegalArgumentException" ({ cls := "java/lang/Throwable", name := "fillInStackTrace", desc := "(I)Ljava/lang/Throwable;" } : Jvm.MethodName) ({ cls := "java/lang/Throwable", name := "fillInStackTrace", desc := "(I)Ljava/lang/Throwable;" } : Jvm.MethodName)) ∈ lw_all := lw_g (lw_at lw_m2 208 rfl) rfl
theorem q557 : (Jvm.Cond.lays "java/lang/IllegalArgumentException" "java/lang/Throwable" "cause" "Ljava/lang/Throwable;") ∈ lw_all := lw_g (lw_at lw_m2 209 rfl) rfl
theorem q558 : (Jvm.Cond.lays "java/lang/IllegalArgumentException" "java/lang/Throwable" "stackTrace" "[Ljava/lang/StackTraceElement;") ∈ lw_all := lw_g (lw_at lw_m2 210 rfl) rfl
theorem q559 : (Jvm.Cond.lays "java/lang/IllegalArgumentException" "java/lang/Throwable" "suppressedExceptions" "Ljava/util/List;") ∈ lw_all := lw_g (lw_at lw_m2 211 rfl) rfl
theorem q560 : (Jvm.Cond.lays "java/lang/IllegalArgumentException" "java/lang/Throwable" "detailMessage" "Ljava/lang/String;") ∈ lw_all := lw_g (lw_at lw_m2 212 rfl) rfl
theorem q561 : (Jvm.Cond.lays "java/lang/IllegalArgumentException" "java/lang/Throwable" "backtrace" "Ljava/lang/Object;") ∈ lw_all := lw_g (lw_at lw_m2 213 rfl) rfl
theorem q569 : (Jvm.Cond.instanceMethod ({ cls := "java/lang/IllegalArgumentException", name := "<init>", desc := "(Ljava/lang/String;)V" } : Jvm.MethodName)) ∈ lw_all := lw_g (lw_at lw_m2 221 rfl) rfl
theorem q570 : (Jvm.Cond.code ({ cls := "java/lang/IllegalArgumentException", name := "<init>", desc := "(Ljava/lang/String;)V" } : Jvm.MethodName) prog_21_method_2_code (2 : Nat) (Option.none : Option Jvm.ClassFile.FieldType)) ∈ lw_all := lw_g (lw_at lw_m2 222 rfl) rfl
theorem q571 : (Jvm.Cond.methodLink "java/lang/IllegalArgumentException" (7 : Nat) ({ cls := "java/lang/RuntimeException", name := "<init>", desc := "(Ljava/lang/String;)V" } : Jvm.MethodName)) ∈ lw_all := lw_g (lw_at lw_m2 223 rfl) rfl
theorem q589 : (Jvm.Cond.lays "java/lang/IllegalArgumentException" "java/lang/Throwable" "depth" "I") ∈ lw_all := lw_g (lw_at lw_m3 1 rfl) rfl
theorem q592 : (Jvm.Cond.superclass "java/lang/IllegalArgumentException" "java/lang/RuntimeException") ∈ lw_all := lw_g (lw_at lw_m3 4 rfl) rfl
theorem q726 : (Jvm.Cond.selects "java/lang/IllegalArgumentException" ({ cls := "java/lang/Object", name := "getClass", desc := "()Ljava/lang/Class;" } : Jvm.MethodName) ({ cls := "java/lang/Object", name := "getClass", desc := "()Ljava/lang/Class;" } : Jvm.MethodName)) ∈ lw_all := lw_g (lw_at lw_m3 138 rfl) rfl
theorem q1234 : (Jvm.Cond.selects "java/lang/IllegalArgumentException" ({ cls := "java/lang/Throwable", name := "toString", desc := "()Ljava/lang/String;" } : Jvm.MethodName) ({ cls := "java/lang/Throwable", name := "toString", desc := "()Ljava/lang/String;" } : Jvm.MethodName)) ∈ lw_all := lw_g (lw_at lw_m5 166 rfl) rfl
theorem q1245 : (Jvm.Cond.selects "java/lang/IllegalArgumentException" ({ cls := "java/lang/Throwable", name := "getLocalizedMessage", desc := "()Ljava/lang/String;" } : Jvm.MethodName) ({ cls := "java/lang/Throwable", name := "getLocalizedMessage", desc := "()Ljava/lang/String;" } : Jvm.MethodName)) ∈ lw_all := lw_g (lw_at lw_m5 177 rfl) rfl
theorem q1255 : (Jvm.Cond.selects "java/lang/IllegalArgumentException" ({ cls := "java/lang/Throwable", name := "getMessage", desc := "()Ljava/lang/String;" } : Jvm.MethodName) ({ cls := "java/lang/Throwable", name := "getMessage", desc := "()Ljava/lang/String;" } : Jvm.MethodName)) ∈ lw_all := lw_g (lw_at lw_m5 187 rfl) rfl
theorem q1486 : (Jvm.Cond.instanceMethod ({ cls := "java/lang/IllegalArgumentException", name := "<init>", desc := "()V" } : Jvm.MethodName)) ∈ lw_all := lw_g (lw_at lw_m6 178 rfl) rfl
theorem q1487 : (Jvm.Cond.code ({ cls := "java/lang/IllegalArgumentException", name := "<init>", desc := "()V" } : Jvm.MethodName) prog_21_method_1_code (1 : Nat) (Option.none : Option Jvm.ClassFile.FieldType)) ∈ lw_all := lw_g (lw_at lw_m6 179 rfl) rfl
theorem q1488 : (Jvm.Cond.methodLink "java/lang/IllegalArgumentException" (1 : Nat) ({ cls := "java/lang/RuntimeException", name := "<init>", desc := "()V" } : Jvm.MethodName)) ∈ lw_all := lw_g (lw_at lw_m6 180 rfl) rfl
theorem q2413 : (Jvm.Cond.selects "java/lang/IllegalArgumentException" ({ cls := "java/lang/Object", name := "equals", desc := "(Ljava/lang/Object;)Z" } : Jvm.MethodName) ({ cls := "java/lang/Object", name := "equals", desc := "(Ljava/lang/Object;)Z" } : Jvm.MethodName)) ∈ lw_all := lw_g (lw_at lw_m10 145 rfl) rfl
theorem q3126 : (Jvm.Cond.castable "java/lang/IllegalArgumentException" "java/lang/Object") ∈ lw_tbl := lw_at lw_m13 138 rfl
theorem q136 : (Jvm.Cond.initialized "java/lang/IllegalStateException") ∈ lw_all := lw_g (lw_at lw_m1 28 rfl) rfl
theorem q339 : (Jvm.Cond.selects "java/lang/IllegalStateException" ({ cls := "java/lang/Throwable", name := "fillInStackTrace", desc := "()Ljava/lang/Throwable;" } : Jvm.MethodName) ({ cls := "java/lang/Throwable", name := "fillInStackTrace", desc := "()Ljava/lang/Throwable;" } : Jvm.MethodName)) ∈ lw_all := lw_g (lw_at lw_m1 231 rfl) rfl
theorem q694 : (Jvm.Cond.instantiable "java/lang/IllegalStateException" (6 : Nat)) ∈ lw_all := lw_g (lw_at lw_m3 106 rfl) rfl
theorem q695 : (Jvm.Cond.castable "java/lang/IllegalStateException" "java/lang/IllegalStateException") ∈ lw_tbl := lw_at lw_m3 107 rfl
theorem q696 : (Jvm.Cond.selects "java/lang/IllegalStateException" ({ cls := "java/lang/Throwable", name := "fillInStackTrace", desc := "(I)Ljava/lang/Throwable;" } : Jvm.MethodName) ({ cls := "java/lang/Throwable", name := "fillInStackTrace", desc := "(I)Ljava/lang/Throwable;" } : Jvm.MethodName)) ∈ lw_all := lw_g (lw_at lw_m3 108 rfl) rfl
theorem q697 : (Jvm.Cond.lays "java/lang/IllegalStateException" "java/lang/Throwable" "cause" "Ljava/lang/Throwable;") ∈ lw_all := lw_g (lw_at lw_m3 109 rfl) rfl
theorem q698 : (Jvm.Cond.lays "java/lang/IllegalStateException" "java/lang/Throwable" "stackTrace" "[Ljava/lang/StackTraceElement;") ∈ lw_all := lw_g (lw_at lw_m3 110 rfl) rfl
theorem q699 : (Jvm.Cond.lays "java/lang/IllegalStateException" "java/lang/Throwable" "suppressedExceptions" "Ljava/util/List;") ∈ lw_all := lw_g (lw_at lw_m3 111 rfl) rfl
theorem q700 : (Jvm.Cond.lays "java/lang/IllegalStateException" "java/lang/Throwable" "detailMessage" "Ljava/lang/String;") ∈ lw_all := lw_g (lw_at lw_m3 112 rfl) rfl
theorem q701 : (Jvm.Cond.lays "java/lang/IllegalStateException" "java/lang/Throwable" "backtrace" "Ljava/lang/Object;") ∈ lw_all := lw_g (lw_at lw_m3 113 rfl) rfl
theorem q704 : (Jvm.Cond.instanceMethod ({ cls := "java/lang/IllegalStateException", name := "<init>", desc := "(Ljava/lang/String;)V" } : Jvm.MethodName)) ∈ lw_all := lw_g (lw_at lw_m3 116 rfl) rfl
theorem q705 : (Jvm.Cond.code ({ cls := "java/lang/IllegalStateException", name := "<init>", desc := "(Ljava/lang/String;)V" } : Jvm.MethodName) prog_22_method_2_code (2 : Nat) (Option.none : Option Jvm.ClassFile.FieldType)) ∈ lw_all := lw_g (lw_at lw_m3 117 rfl) rfl
theorem q706 : (Jvm.Cond.methodLink "java/lang/IllegalStateException" (7 : Nat) ({ cls := "java/lang/RuntimeException", name := "<init>", desc := "(Ljava/lang/String;)V" } : Jvm.MethodName)) ∈ lw_all := lw_g (lw_at lw_m3 118 rfl) rfl
theorem q707 : (Jvm.Cond.lays "java/lang/IllegalStateException" "java/lang/Throwable" "depth" "I") ∈ lw_all := lw_g (lw_at lw_m3 119 rfl) rfl
theorem q708 : (Jvm.Cond.superclass "java/lang/IllegalStateException" "java/lang/RuntimeException") ∈ lw_all := lw_g (lw_at lw_m3 120 rfl) rfl
theorem q727 : (Jvm.Cond.selects "java/lang/IllegalStateException" ({ cls := "java/lang/Object", name := "getClass", desc := "()Ljava/lang/Class;" } : Jvm.MethodName) ({ cls := "java/lang/Object", name := "getClass", desc := "()Ljava/lang/Class;" } : Jvm.MethodName)) ∈ lw_all := lw_g (lw_at lw_m3 139 rfl) rfl
theorem q1235 : (Jvm.Cond.selects "java/lang/IllegalStateException" ({ cls := "java/lang/Throwable", name := "toString", desc := "()Ljava/lang/String;" } : Jvm.MethodName) ({ cls := "java/lang/Throwable", name := "toString", desc := "()Ljava/lang/String;" } : Jvm.MethodName)) ∈ lw_all := lw_g (lw_at lw_m5 167 rfl) rfl
theorem q1246 : (Jvm.Cond.selects "java/lang/IllegalStateException" ({ cls := "java/lang/Throwable", name := "getLocalizedMessage", desc := "()Ljava/lang/String;" } : Jvm.MethodName) ({ cls := "java/lang/Throwable", name := "getLocalizedMessage", desc := "()Ljava/lang/String;" } : Jvm.MethodName)) ∈ lw_all := lw_g (lw_at lw_m5 178 rfl) rfl
theorem q1256 : (Jvm.Cond.selects "java/lang/IllegalStateException" ({ cls := "java/lang/Throwable", name := "getMessage", desc := "()Ljava/lang/String;" } : Jvm.MethodName) ({ cls := "java/lang/Throwable", name := "getMessage", desc := "()Ljava/lang/String;" } : Jvm.MethodName)) ∈ lw_all := lw_g (lw_at lw_m5 188 rfl) rfl
theorem q1499 : (Jvm.Cond.instanceMethod ({ cls := "java/lang/IllegalStateException", name := "<init>", desc := "()V" } : Jvm.MethodName)) ∈ lw_all := lw_g (lw_at lw_m6 191 rfl) rfl
theorem q1500 : (Jvm.Cond.code ({ cls := "java/lang/IllegalStateException", name := "<init>", desc := "()V" } : Jvm.MethodName) prog_22_method_1_code (1 : Nat) (Option.none : Option Jvm.ClassFile.FieldType)) ∈ lw_all := lw_g (lw_at lw_m6 192 rfl) rfl
theorem q1501 : (Jvm.Cond.methodLink "java/lang/IllegalStateException" (1 : Nat) ({ cls := "java/lang/RuntimeException", name := "<init>", desc := "()V" } : Jvm.MethodName)) ∈ lw_all := lw_g (lw_at lw_m6 193 rfl) rfl
theorem q2414 : (Jvm.Cond.selects "java/lang/IllegalStateException" ({ cls := "java/lang/Object", name := "equals", desc := "(Ljava/lang/Object;)Z" } : Jvm.MethodName) ({ cls := "java/lang/Object", name := "equals", desc := "(Ljava/lang/Object;)Z" } : Jvm.MethodName)) ∈ lw_all := lw_g (lw_at lw_m10 146 rfl) rfl
theorem q3128 : (Jvm.Cond.castable "java/lang/IllegalStateException" "java/lang/Object") ∈ lw_tbl := lw_at lw_m13 140 rfl
theorem q140 : (Jvm.Cond.initialized "java/util/AbstractList$Itr") ∈ lw_all := lw_g (lw_at lw_m1 32 rfl) rfl
theorem q188 : (Jvm.Cond.fieldLink "java/util/AbstractList$Itr" (20 : Nat) "java/util/AbstractList" "modCount" "I") ∈ lw_all := lw_g (lw_at lw_m1 80 rfl) rfl
theorem q1128 : (Jvm.Cond.instanceMethod ({ cls := "java/util/AbstractList$Itr", name := "hasNext", desc := "()Z" } : Jvm.MethodName)) ∈ lw_all := lw_g (lw_at lw_m5 60 rfl) rfl
theorem q1129 : (Jvm.Cond.publicMethod ({ cls := "java/util/AbstractList$Itr", name := "hasNext", desc := "()Z" } : Jvm.MethodName)) ∈ lw_tbl := lw_at lw_m5 61 rfl
theorem q1130 : (Jvm.Cond.code ({ cls := "java/util/AbstractList$Itr", name := "hasNext", desc := "()Z" } : Jvm.MethodName) prog_40_method_2_code (1 : Nat) (Option.some Jvm.ClassFile.FieldType.boolean)) ∈ lw_all := lw_g (lw_at lw_m5 62 rfl) rfl
theorem q1131 : (Jvm.Cond.methodLink "java/util/AbstractList$Itr" (28 : Nat) ({ cls := "java/util/AbstractList", name := "size", desc := "()I" } : Jvm.MethodName)) ∈ lw_all := lw_g (lw_at lw_m5 63 rfl) rfl
theorem q1173 : (Jvm.Cond.instanceMethod ({ cls := "java/util/AbstractList$Itr", name := "next", desc := "()Ljava/lang/Object;" } : Jvm.MethodName)) ∈ lw_all := lw_g (lw_at lw_m5 105 rfl) rfl
theorem q1174 : (Jvm.Cond.publicMethod ({ cls := "java/util/AbstractList$Itr", name := "next", desc := "()Ljava/lang/Object;" } : Jvm.MethodName)) ∈ lw_tbl := lw_at lw_m5 106 rfl
theorem q1175 : (Jvm.Cond.codeWith ({ cls := "java/util/AbstractList$Itr", name := "next", desc := "()Ljava/lang/Object;" } : Jvm.MethodName) prog_40_method_3_code (3 : Nat) (Option.some (Jvm.ClassFile.FieldType.object "java/lang/Object")) [((4 : Nat), (31 : Nat), (32 : Nat), (39 : Nat))]) ∈ lw_all := lw_g (lw_at lw_m5 107 rfl) rfl
theorem q1176 : (Jvm.Cond.methodLink "java/util/AbstractList$Itr" (32 : Nat) ({ cls := "java/util/AbstractList$Itr", name := "checkForComodification", desc := "()V" } : Jvm.MethodName)) ∈ lw_all := lw_g (lw_at lw_m5 108 rfl) rfl
theorem q1177 : (Jvm.Cond.instanceMethod ({ cls := "java/util/AbstractList$Itr", name := "checkForComodification", desc := "()V" } : Jvm.MethodName)) ∈ lw_all := lw_g (lw_at lw_m5 109 rfl) rfl
theorem q1178 : (Jvm.Cond.sameMethod "java/util/AbstractList$Itr" "java/util/AbstractList$Itr" "checkForComodification" "()V") ∈ lw_all := lw_g (lw_at lw_m5 110 rfl) rfl
theorem q1180 : (Jvm.Cond.code ({ cls := "java/util/AbstractList$Itr", name := "checkForComodification", desc := "()V" } : Jvm.MethodName) prog_40_method_5_code (1 : Nat) (Option.none : Option Jvm.ClassFile.FieldType)) ∈ lw_all := lw_g (lw_at lw_m5 112 rfl) rfl
theorem q1181 : (Jvm.Cond.methodLink "java/util/AbstractList$Itr" (35 : Nat) ({ cls := "java/util/AbstractList", name := "get", desc := "(I)Ljava/lang/Object;" } : Jvm.MethodName)) ∈ lw_all := lw_g (lw_at lw_m5 113 rfl) rfl
theorem q1209 : (Jvm.Cond.classLink "java/util/AbstractList$Itr" (41 : Nat) "java/util/NoSuchElementException") ∈ lw_all := lw_g (lw_at lw_m5 141 rfl) rfl
theorem q1218 : (Jvm.Cond.methodLink "java/util/AbstractList$Itr" (43 : Nat) ({ cls := "java/util/NoSuchElementException", name := "<init>", desc := "(Ljava/lang/Throwable;)V" } : Jvm.MethodName)) ∈ lw_all := lw_g (lw_at lw_m5 150 rfl) rfl
theorem q1670 : (Jvm.Cond.instanceMethod ({ cls := "java/util/AbstractList$Itr", name := "remove", desc := "()V" } : Jvm.MethodName)) ∈ lw_all := lw_g (lw_at lw_m7 122 rfl) rfl
theorem q1671 : (Jvm.Cond.publicMethod ({ cls := "java/util/AbstractList$Itr", name := "remove", desc := "()V" } : Jvm.MethodName)) ∈ lw_tbl := lw_at lw_m7 123 rfl
theorem q1672 : (Jvm.Cond.codeWith ({ cls := "java/util/AbstractList$Itr", name := "remove", desc := "()V" } : Jvm.MethodName) prog_40_method_4_code (2 : Nat) (Option.none : Option Jvm.ClassFile.FieldType) [((19 : Nat), (68 : Nat), (71 : Nat), (39 : Nat))]) ∈ lw_all := lw_g (lw_at lw_m7 124 rfl) rfl
theorem q1673 : (Jvm.Cond.classLink "java/util/AbstractList$Itr" (46 : Nat) "java/lang/IllegalStateException") ∈ lw_all := lw_g (lw_at lw_m7 125 rfl) rfl
theorem q1674 : (Jvm.Cond.methodLink "java/util/AbstractList$Itr" (48 : Nat) ({ cls := "java/lang/IllegalStateException", name := "<init>", desc := "()V" } : Jvm.MethodName)) ∈ lw_all := lw_g (lw_at lw_m7 126 rfl) rfl
theorem q1675 : (Jvm.Cond.methodLink "java/util/AbstractList$Itr" (49 : Nat) ({ cls := "java/util/AbstractList", name := "remove", desc := "(I)Ljava/lang/Object;" } : Jvm.MethodName)) ∈ lw_all := lw_g (lw_at lw_m7 127 rfl) rfl
theorem q1694 : (Jvm.Cond.classLink "java/util/AbstractList$Itr" (52 : Nat) "java/util/ConcurrentModificationException") ∈ lw_all := lw_g (lw_at lw_m7 146 rfl) rfl
theorem q1696 : (Jvm.Cond.methodLink "java/util/AbstractList$Itr" (54 : Nat) ({ cls := "java/util/ConcurrentModificationException", name := "<init>", desc := "()V" } : Jvm.MethodName)) ∈ lw_all := lw_g (lw_at lw_m7 148 rfl) rfl
theorem q3158 : (Jvm.Cond.fieldLink "java/util/AbstractList$Itr" (1 : Nat) "java/util/AbstractList$Itr" "this$0" "Ljava/util/AbstractList;") ∈ lw_all := lw_g (lw_at lw_m13 170 rfl) rfl
theorem q3159 : (Jvm.Cond.fieldLink "java/util/AbstractList$Itr" (13 : Nat) "java/util/AbstractList$Itr" "cursor" "I") ∈ lw_all := lw_g (lw_at lw_m13 171 rfl) rfl
theorem q3160 : (Jvm.Cond.fieldLink "java/util/AbstractList$Itr" (17 : Nat) "java/util/AbstractList$Itr" "lastRet" "I") ∈ lw_all := lw_g (lw_at lw_m13 172 rfl) rfl
theorem q3161 : (Jvm.Cond.fieldLink "java/util/AbstractList$Itr" (25 : Nat) "java/util/AbstractList$Itr" "expectedModCount" "I") ∈ lw_all := lw_g (lw_at lw_m13 173 rfl) rfl
theorem q143 : (Jvm.Cond.initialized "java/util/ArrayList$ListItr") ∈ lw_all := lw_g (lw_at lw_m1 35 rfl) rfl
theorem q737 : (Jvm.Cond.selects "java/util/ArrayList$ListItr" ({ cls := "java/lang/Object", name := "getClass", desc := "()Ljava/lang/Class;" } : Jvm.MethodName) ({ cls := "java/lang/Object", name := "getClass", desc := "()Ljava/lang/Class;" } : Jvm.MethodName)) ∈ lw_all := lw_g (lw_at lw_m3 149 rfl) rfl
theorem q1007 : (Jvm.Cond.fieldLink "java/util/ArrayList$ListItr" (13 : Nat) "java/util/ArrayList$ListItr" "cursor" "I") ∈ lw_all := lw_g (lw_at lw_m4 179 rfl) rfl
theorem q1008 : (Jvm.Cond.sameField "java/util/ArrayList$ListItr" "java/util/ArrayList$Itr" "cursor" "I") ∈ lw_all := lw_g (lw_at lw_m4 180 rfl) rfl
theorem q1057 : (Jvm.Cond.instantiable "java/util/ArrayList$ListItr" (5 : Nat)) ∈ lw_all := lw_g (lw_at lw_m4 229 rfl) rfl
theorem q1059 : (Jvm.Cond.instanceMethod ({ cls := "java/util/ArrayList$ListItr", name := "<init>", desc := "(Ljava/util/ArrayList;I)V" } : Jvm.MethodName)) ∈ lw_all := lw_g (lw_at lw_m4 231 rfl) rfl
theorem q1060 : (Jvm.Cond.code ({ cls := "java/util/ArrayList$ListItr", name := "<init>", desc := "(Ljava/util/ArrayList;I)V" } : Jvm.MethodName) prog_47_method_1_code (3 : Nat) (Option.none : Option Jvm.ClassFile.FieldType)) ∈ lw_all := lw_g (lw_at lw_m4 232 rfl) rfl
theorem q1061 : (Jvm.Cond.methodLink "java/util/ArrayList$ListItr" (7 : Nat) ({ cls := "java/util/ArrayList$Itr", name := "<init>", desc := "(Ljava/util/ArrayList;)V" } : Jvm.MethodName)) ∈ lw_all := lw_g (lw_at lw_m4 233 rfl) rfl
theorem q1062 : (Jvm.Cond.fieldLink "java/util/ArrayList$ListItr" (1 : Nat) "java/util/ArrayList$ListItr" "this$0" "Ljava/util/ArrayList;") ∈ lw_all := lw_g (lw_at lw_m4 234 rfl) rfl
theorem q1063 : (Jvm.Cond.laysFinal "java/util/ArrayList$ListItr" "java/util/ArrayList$ListItr" "this$0" "Ljava/util/ArrayList;") ∈ lw_all := lw_g (lw_at lw_m4 235 rfl) rfl
theorem q1064 : (Jvm.Cond.soleField "java/util/ArrayList$ListItr" "this$0") ∈ lw_all := lw_g (lw_at lw_m4 236 rfl) rfl
theorem q1065 : (Jvm.Cond.lays "java/util/ArrayList$ListItr" "java/util/ArrayList$Itr" "cursor" "I") ∈ lw_all := lw_g (lw_at lw_m4 237 rfl) rfl
theorem q1066 : (Jvm.Cond.lays "java/util/ArrayList$ListItr" "java/util/ArrayList$Itr" "lastRet" "I") ∈ lw_all := lw_g (lw_at lw_m4 238 rfl) rfl
theorem q1067 : (Jvm.Cond.lays "java/util/ArrayList$ListItr" "java/util/ArrayList$Itr" "expectedModCount" "I") ∈ lw_all := lw_g (lw_at lw_m4 239 rfl) rfl
theorem q1068 : (Jvm.Cond.laysFinal "java/util/ArrayList$ListItr" "java/util/ArrayList$Itr" "this$0" "Ljava/util/ArrayList;") ∈ lw_all := lw_g (lw_at lw_m5 0 rfl) rfl
theorem q1069 : (Jvm.Cond.superclass "java/util/ArrayList$ListItr" "java/util/ArrayList$Itr") ∈ lw_all := lw_g (lw_at lw_m5 1 rfl) rfl
theorem q1148 : (Jvm.Cond.castable "java/util/ArrayList$ListItr" "java/util/Iterator") ∈ lw_tbl := lw_at lw_m5 80 rfl
theorem q1149 : (Jvm.Cond.selects "java/util/ArrayList$ListItr" ({ cls := "java/util/Iterator", name := "hasNext", desc := "()Z" } : Jvm.MethodName) ({ cls := "java/util/ArrayList$Itr", name := "hasNext", desc := "()Z" } : Jvm.MethodName)) ∈ lw_all := lw_g (lw_at lw_m5 81 rfl) rfl
theorem q1150 : (Jvm.Cond.unhidden "java/util/ArrayList$ListItr" "hasNext" "()Z") ∈ lw_tbl := lw_at lw_m5 82 rfl
theorem q1297 : (Jvm.Cond.selects "java/util/ArrayList$ListItr" ({ cls := "java/util/ArrayList$Itr", name := "checkForComodification", desc := "()V" } : Jvm.MethodName) ({ cls := "java/util/ArrayList$Itr", name := "checkForComodification", desc := "()V" } : Jvm.MethodName)) ∈ lw_all := lw_g (lw_at lw_m5 229 rfl) rfl
theorem q1301 : (Jvm.Cond.selects "java/util/ArrayList$ListItr" ({ cls := "java/util/Iterator", name := "next", desc := "()Ljava/lang/Object;" } : Jvm.MethodName) ({ cls := "java/util/ArrayList$Itr", name := "next", desc := "()Ljava/lang/Object;" } : Jvm.MethodName)) ∈ lw_all := lw_g (lw_at lw_m5 233 rfl) rfl
theorem q1302 : (Jvm.Cond.unhidden "java/util/ArrayList$ListItr" "next" "()Ljava/lang/Object;") ∈ lw_tbl := lw_at lw_m5 234 rfl
theorem q1736 : (Jvm.Cond.selects "java/util/ArrayList$ListItr" ({ cls := "java/util/Iterator", name := "remove", desc := "()V" } : Jvm.MethodName) ({ cls := "java/util/ArrayList$Itr", name := "remove", desc := "()V" } : Jvm.MethodName)) ∈ lw_all := lw_g (lw_at lw_m7 188 rfl) rfl
theorem q1737 : (Jvm.Cond.unhidden "java/util/ArrayList$ListItr" "remove" "()V") ∈ lw_tbl := lw_at lw_m7 189 rfl
theorem q3133 : (Jvm.Cond.castable "java/util/ArrayList$ListItr" "java/lang/Object") ∈ lw_tbl := lw_at lw_m13 145 rfl
theorem q146 : (Jvm.Cond.initialized "java/util/NoSuchElementException") ∈ lw_all := lw_g (lw_at lw_m1 38 rfl) rfl
theorem q341 : (Jvm.Cond.selects "java/util/NoSuchElementException" ({ cls := "java/lang/Throwable", name := "fillInStackTrace", desc := "()Ljava/lang/Throwable;" } : Jvm.MethodName) ({ cls := "java/lang/Throwable", name := "fillInStackTrace", desc := "()Ljava/lang/Throwable;" } : Jvm.MethodName)) ∈ lw_all := lw_g (lw_at lw_m1 233 rfl) rfl
theorem q744 : (Jvm.Cond.selects "java/util/NoSuchElementException" ({ cls := "java/lang/Object", name := "getClass", desc := "()Ljava/lang/Class;" } : Jvm.MethodName) ({ cls := "java/lang/Object", name := "getClass", desc := "()Ljava/lang/Class;" } : Jvm.MethodName)) ∈ lw_all := lw_g (lw_at lw_m3 156 rfl) rfl
theorem q1210 : (Jvm.Cond.instantiable "java/util/NoSuchElementException" (6 : Nat)) ∈ lw_all := lw_g (lw_at lw_m5 142 rfl) rfl
theorem q1211 : (Jvm.Cond.castable "java/util/NoSuchElementException" "java/util/NoSuchElementException") ∈ lw_tbl := lw_at lw_m5 143 rfl
theorem q1212 : (Jvm.Cond.selects "java/util/NoSuchElementException" ({ cls := "java/lang/Throwable", name := "fillInStackTrace", desc := "(I)Ljava/lang/Throwable;" } : Jvm.MethodName) ({ cls := "java/lang/Throwable", name := "fillInStackTrace", desc := "(I)Ljava/lang/Throwable;" } : Jvm.MethodName)) ∈ lw_all := lw_g (lw_at lw_m5 144 rfl) rfl
theorem q1213 : (Jvm.Cond.lays "java/util/NoSuchElementException" "java/lang/Throwable" "cause" "Ljava/lang/Throwable;") ∈ lw_all := lw_g (lw_at lw_m5 145 rfl) rfl
theorem q1214 : (Jvm.Cond.lays "java/util/NoSuchElementException" "java/lang/Throwable" "stackTrace" "[Ljava/lang/StackTraceElement;") ∈ lw_all := lw_g (lw_at lw_m5 146 rfl) rfl
theorem q1215 : (Jvm.Cond.lays "java/util/NoSuchElementException" "java/lang/Throwable" "suppressedExceptions" "Ljava/util/List;") ∈ lw_all := lw_g (lw_at lw_m5 147 rfl) rfl
theorem q1216 : (Jvm.Cond.lays "java/util/NoSuchElementException" "java/lang/Throwable" "detailMessage" "Ljava/lang/String;") ∈ lw_all := lw_g (lw_at lw_m5 148 rfl) rfl
theorem q1217 : (Jvm.Cond.lays "java/util/NoSuchElementException" "java/lang/Throwable" "backtrace" "Ljava/lang/Object;") ∈ lw_all := lw_g (lw_at lw_m5 149 rfl) rfl
theorem q1219 : (Jvm.Cond.instanceMethod ({ cls := "java/util/NoSuchElementException", name := "<init>", desc := "(Ljava/lang/Throwable;)V" } : Jvm.MethodName)) ∈ lw_all := lw_g (lw_at lw_m5 151 rfl) rfl
theorem q1220 : (Jvm.Cond.code ({ cls := "java/util/NoSuchElementException", name := "<init>", desc := "(Ljava/lang/Throwable;)V" } : Jvm.MethodName) prog_60_method_3_code (2 : Nat) (Option.none : Option Jvm.ClassFile.FieldType)) ∈ lw_all := lw_g (lw_at lw_m5 152 rfl) rfl
theorem q1221 : (Jvm.Cond.methodLink "java/util/NoSuchElementException" (10 : Nat) ({ cls := "java/lang/RuntimeException", name := "<init>", desc := "(Ljava/lang/Throwable;)V" } : Jvm.MethodName)) ∈ lw_all := lw_g (lw_at lw_m5 153 rfl) rfl
theorem q1238 : (Jvm.Cond.selects "java/util/NoSuchElementException" ({ cls := "java/lang/Throwable", name := "toString", desc := "()Ljava/lang/String;" } : Jvm.MethodName) ({ cls := "java/lang/Throwable", name := "toString", desc := "()Ljava/lang/String;" } : Jvm.MethodName)) ∈ lw_all := lw_g (lw_at lw_m5 170 rfl) rfl
theorem q1249 : (Jvm.Cond.selects "java/util/NoSuchElementException" ({ cls := "java/lang/Throwable", name := "getLocalizedMessage", desc := "()Ljava/lang/String;" } : Jvm.MethodName) ({ cls := "java/lang/Throwable", name := "getLocalizedMessage", desc := "()Ljava/lang/String;" } : Jvm.MethodName)) ∈ lw_all := lw_g (lw_at lw_m5 181 rfl) rfl
theorem q1259 : (Jvm.Cond.selects "java/util/NoSuchElementException" ({ cls := "java/lang/Throwable", name := "getMessage", desc := "()Ljava/lang/String;" } : Jvm.MethodName) ({ cls := "java/lang/Throwable", name := "getMessage", desc := "()Ljava/lang/String;" } : Jvm.MethodName)) ∈ lw_all := lw_g (lw_at lw_m5 191 rfl) rfl
theorem q1266 : (Jvm.Cond.lays "java/util/NoSuchElementException" "java/lang/Throwable" "depth" "I") ∈ lw_all := lw_g (lw_at lw_m5 198 rfl) rfl
theorem q1267 : (Jvm.Cond.superclass "java/util/NoSuchElementException" "java/lang/RuntimeException") ∈ lw_all := lw_g (lw_at lw_m5 199 rfl) rfl
theorem q1275 : (Jvm.Cond.instanceMethod ({ cls := "java/util/NoSuchElementException", name := "<init>", desc := "()V" } : Jvm.MethodName)) ∈ lw_all := lw_g (lw_at lw_m5 207 rfl) rfl
theorem q1276 : (Jvm.Cond.code ({ cls := "java/util/NoSuchElementException", name := "<init>", desc := "()V" } : Jvm.MethodName) prog_60_method_1_code (1 : Nat) (Option.none : Option Jvm.ClassFile.FieldType)) ∈ lw_all := lw_g (lw_at lw_m5 208 rfl) rfl
theorem q1277 : (Jvm.Cond.methodLink "java/util/NoSuchElementException" (1 : Nat) ({ cls := "java/lang/RuntimeException", name := "<init>", desc := "()V" } : Jvm.MethodName)) ∈ lw_all := lw_g (lw_at lw_m5 209 rfl) rfl
theorem q3135 : (Jvm.Cond.castable "java/util/NoSuchElementException" "java/lang/Object") ∈ lw_tbl := lw_at lw_m13 147 rfl
theorem q147 : (Jvm.Cond.initialized "java/util/ConcurrentModificationException") ∈ lw_all := lw_g (lw_at lw_m1 39 rfl) rfl
theorem q340 : (Jvm.Cond.selects "java/util/ConcurrentModificationException" ({ cls := "java/lang/Throwable", name := "fillInStackTrace", desc := "()Ljava/lang/Throwable;" } : Jvm.MethodName) ({ cls := "java/lang/Throwable", name := "fillInStackTrace", desc := "()Ljava/lang/Throwable;" } : Jvm.MethodName)) ∈ lw_all := lw_g (lw_at lw_m1 232 rfl) rfl
theorem q739 : (Jvm.Cond.selects "java/util/ConcurrentModificationException" ({ cls := "java/lang/Object", name := "getClass", desc := "()Ljava/lang/Class;" } : Jvm.MethodName) ({ cls := "java/lang/Object", name := "getClass", desc := "()Ljava/lang/Class;" } : Jvm.MethodName)) ∈ lw_all := lw_g (lw_at lw_m3 151 rfl) rfl
theorem q1237 : (Jvm.Cond.selects "java/util/ConcurrentModificationException" ({ cls := "java/lang/Throwable", name := "toString", desc := "()Ljava/lang/String;" } : Jvm.MethodName) ({ cls := "java/lang/Throwable", name := "toString", desc := "()Ljava/lang/String;" } : Jvm.MethodName)) ∈ lw_all := lw_g (lw_at lw_m5 169 rfl) rfl
theorem q1248 : (Jvm.Cond.selects "java/util/ConcurrentModificationException" ({ cls := "java/lang/Throwable", name := "getLocalizedMessage", desc := "()Ljava/lang/String;" } : Jvm.MethodName) ({ cls := "java/lang/Throwable", name := "getLocalizedMessage", desc := "()Ljava/lang/String;" } : Jvm.MethodName)) ∈ lw_all := lw_g (lw_at lw_m5 180 rfl) rfl
theorem q1258 : (Jvm.Cond.selects "java/util/ConcurrentModificationException" ({ cls := "java/lang/Throwable", name := "getMessage", desc := "()Ljava/lang/String;" } : Jvm.MethodName) ({ cls := "java/lang/Throwable", name := "getMessage", desc := "()Ljava/lang/String;" } : Jvm.MethodName)) ∈ lw_all := lw_g (lw_at lw_m5 190 rfl) rfl
theorem q1695 : (Jvm.Cond.instantiable "java/util/ConcurrentModificationException" (6 : Nat)) ∈ lw_all := lw_g (lw_at lw_m7 147 rfl) rfl
theorem q1697 : (Jvm.Cond.instanceMethod ({ cls := "java/util/ConcurrentModificationException", name := "<init>", desc := "()V" } : Jvm.MethodName)) ∈ lw_all := lw_g (lw_at lw_m7 149 rfl) rfl
theorem q1698 : (Jvm.Cond.code ({ cls := "java/util/ConcurrentModificationException", name := "<init>", desc := "()V" } : Jvm.MethodName) prog_51_method_1_code (1 : Nat) (Option.none : Option Jvm.ClassFile.FieldType)) ∈ lw_all := lw_g (lw_at lw_m7 150 rfl) rfl
theorem q1699 : (Jvm.Cond.methodLink "java/util/ConcurrentModificationException" (1 : Nat) ({ cls := "java/lang/RuntimeException", name := "<init>", desc := "()V" } : Jvm.MethodName)) ∈ lw_all := lw_g (lw_at lw_m7 151 rfl) rfl
theorem q1700 : (Jvm.Cond.lays "java/util/ConcurrentModificationException" "java/lang/Throwable" "backtrace" "Ljava/lang/Object;") ∈ lw_all := lw_g (lw_at lw_m7 152 rfl) rfl
theorem q1701 : (Jvm.Cond.lays "java/util/ConcurrentModificationException" "java/lang/Throwable" "detailMessage" "Ljava/lang/String;") ∈ lw_all := lw_g (lw_at lw_m7 153 rfl) rfl
theorem q1702 : (Jvm.Cond.lays "java/util/ConcurrentModificationException" "java/lang/Throwable" "cause" "Ljava/lang/Throwable;") ∈ lw_all := lw_g (lw_at lw_m7 154 rfl) rfl
theorem q1703 : (Jvm.Cond.lays "java/util/ConcurrentModificationException" "java/lang/Throwable" "stackTrace" "[Ljava/lang/StackTraceElement;") ∈ lw_all := lw_g (lw_at lw_m7 155 rfl) rfl
theorem q1704 : (Jvm.Cond.lays "java/util/ConcurrentModificationException" "java/lang/Throwable" "depth" "I") ∈ lw_all := lw_g (lw_at lw_m7 156 rfl) rfl
theorem q1705 : (Jvm.Cond.lays "java/util/ConcurrentModificationException" "java/lang/Throwable" "suppressedExceptions" "Ljava/util/List;") ∈ lw_all := lw_g (lw_at lw_m7 157 rfl) rfl
theorem q1706 : (Jvm.Cond.superclass "java/util/ConcurrentModificationException" "java/lang/RuntimeException") ∈ lw_all := lw_g (lw_at lw_m7 158 rfl) rfl
theorem q3136 : (Jvm.Cond.castable "java/util/ConcurrentModificationException" "java/lang/Object") ∈ lw_tbl := lw_at lw_m13 148 rfl
theorem q154 : (Jvm.Cond.initialized "java/lang/ArrayIndexOutOfBoundsException") ∈ lw_all := lw_g (lw_at lw_m1 46 rfl) rfl
theorem q337 : (Jvm.Cond.selects "java/lang/ArrayIndexOutOfBoundsException" ({ cls := "java/lang/Throwable", name := "fillInStackTrace", desc := "()Ljava/lang/Throwable;" } : Jvm.MethodName) ({ cls := "java/lang/Throwable", name := "fillInStackTrace", desc := "()Ljava/lang/Throwable;" } : Jvm.MethodName)) ∈ lw_all := lw_g (lw_at lw_m1 229 rfl) rfl
theorem q725 : (Jvm.Cond.selects "java/lang/ArrayIndexOutOfBoundsException" ({ cls := "java/lang/Object", name := "getClass", desc := "()Ljava/lang/Class;" } : Jvm.MethodName) ({ cls := "java/lang/Object", name := "getClass", desc := "()Ljava/lang/Class;" } : Jvm.MethodName)) ∈ lw_all := lw_g (lw_at lw_m3 137 rfl) rfl
theorem q1233 : (Jvm.Cond.selects "java/lang/ArrayIndexOutOfBoundsException" ({ cls := "java/lang/Throwable", name := "toString", desc := "()Ljava/lang/String;" } : Jvm.MethodName) ({ cls := "java/lang/Throwable", name := "toString", desc := "()Ljava/lang/String;" } : Jvm.MethodName)) ∈ lw_all := lw_g (lw_at lw_m5 165 rfl) rfl
theorem q1244 : (Jvm.Cond.selects "java/lang/ArrayIndexOutOfBoundsException" ({ cls := "java/lang/Throwable", name := "getLocalizedMessage", desc := "()Ljava/lang/String;" } : Jvm.MethodName) ({ cls := "java/lang/Throwable", name := "getLocalizedMessage", desc := "()Ljava/lang/String;" } : Jvm.MethodName)) ∈ lw_all := lw_g (lw_at lw_m5 176 rfl) rfl
theorem q1254 : (Jvm.Cond.selects "java/lang/ArrayIndexOutOfBoundsException" ({ cls := "java/lang/Throwable", name := "getMessage", desc := "()Ljava/lang/String;" } : Jvm.MethodName) ({ cls := "java/lang/Throwable", name := "getMessage", desc := "()Ljava/lang/String;" } : Jvm.MethodName)) ∈ lw_all := lw_g (lw_at lw_m5 186 rfl) rfl
theorem q2270 : (Jvm.Cond.instantiable "java/lang/ArrayIndexOutOfBoundsException" (6 : Nat)) ∈ lw_all := lw_g (lw_at lw_m10 2 rfl) rfl
theorem q2271 : (Jvm.Cond.instanceMethod ({ cls := "java/lang/ArrayIndexOutOfBoundsException", name := "<init>", desc := "(Ljava/lang/String;)V" } : Jvm.MethodName)) ∈ lw_all := lw_g (lw_at lw_m10 3 rfl) rfl
theorem q2272 : (Jvm.Cond.code ({ cls := "java/lang/ArrayIndexOutOfBoundsException", name := "<init>", desc := "(Ljava/lang/String;)V" } : Jvm.MethodName) prog_15_method_2_code (2 : Nat) (Option.none : Option Jvm.ClassFile.FieldType)) ∈ lw_all := lw_g (lw_at lw_m10 4 rfl) rfl
theorem q2273 : (Jvm.Cond.methodLink "java/lang/ArrayIndexOutOfBoundsException" (7 : Nat) ({ cls := "java/lang/IndexOutOfBoundsException", name := "<init>", desc := "(Ljava/lang/String;)V" } : Jvm.MethodName)) ∈ lw_all := lw_g (lw_at lw_m10 5 rfl) rfl
theorem q2274 : (Jvm.Cond.lays "java/lang/ArrayIndexOutOfBoundsException" "java/lang/Throwable" "backtrace" "Ljava/lang/Object;") ∈ lw_all := lw_g (lw_at lw_m10 6 rfl) rfl
theorem q2275 : (Jvm.Cond.lays "java/lang/ArrayIndexOutOfBoundsException" "java/lang/Throwable" "detailMessage" "Ljava/lang/String;") ∈ lw_all := lw_g (lw_at lw_m10 7 rfl) rfl
theorem q2276 : (Jvm.Cond.lays "java/lang/ArrayIndexOutOfBoundsException" "java/lang/Throwable" "cause" "Ljava/lang/Throwable;") ∈ lw_all := lw_g (lw_at lw_m10 8 rfl) rfl
theorem q2277 : (Jvm.Cond.lays "java/lang/ArrayIndexOutOfBoundsException" "java/lang/Throwable" "stackTrace" "[Ljava/lang/StackTraceElement;") ∈ lw_all := lw_g (lw_at lw_m10 9 rfl) rfl
theorem q2278 : (Jvm.Cond.lays "java/lang/ArrayIndexOutOfBoundsException" "java/lang/Throwable" "depth" "I") ∈ lw_all := lw_g (lw_at lw_m10 10 rfl) rfl
theorem q2279 : (Jvm.Cond.lays "java/lang/ArrayIndexOutOfBoundsException" "java/lang/Throwable" "suppressedExceptions" "Ljava/util/List;") ∈ lw_all := lw_g (lw_at lw_m10 11 rfl) rfl
theorem q2280 : (Jvm.Cond.superclass "java/lang/ArrayIndexOutOfBoundsException" "java/lang/IndexOutOfBoundsException") ∈ lw_all := lw_g (lw_at lw_m10 12 rfl) rfl
theorem q2281 : (Jvm.Cond.castable "java/lang/ArrayIndexOutOfBoundsException" "java/lang/ArrayIndexOutOfBoundsException") ∈ lw_tbl := lw_at lw_m10 13 rfl
theorem q2284 : (Jvm.Cond.selects "java/lang/ArrayIndexOutOfBoundsException" ({ cls := "java/lang/Throwable", name := "fillInStackTrace", desc := "(I)Ljava/lang/Throwable;" } : Jvm.MethodName) ({ cls := "java/lang/Throwable", name := "fillInStackTrace", desc := "(I)Ljava/lang/Throwable;" } : Jvm.MethodName)) ∈ lw_all := lw_g (lw_at lw_m10 16 rfl) rfl
theorem q2412 : (Jvm.Cond.selects "java/lang/ArrayIndexOutOfBoundsException" ({ cls := "java/lang/Object", name := "equals", desc := "(Ljava/lang/Object;)Z" } : Jvm.MethodName) ({ cls := "java/lang/Object", name := "equals", desc := "(Ljava/lang/Object;)Z" } : Jvm.MethodName)) ∈ lw_all := lw_g (lw_at lw_m10 144 rfl) rfl
theorem q3116 : (Jvm.Cond.castable "java/lang/ArrayIndexOutOfBoundsException" "java/lang/IndexOutOfBoundsException") ∈ lw_tbl := lw_at lw_m13 128 rfl
theorem q3143 : (Jvm.Cond.castable "java/lang/ArrayIndexOutOfBoundsException" "java/lang/Object") ∈ lw_tbl := lw_at lw_m13 155 rfl
theorem q119 : (Jvm.Cond.initialized "java/lang/Throwable") ∈ lw_all := lw_g (lw_at lw_m1 11 rfl) rfl
theorem q311 : (Jvm.Cond.declares ({ cls := "java/lang/Throwable", name := "<init>", desc := "()V" } : Jvm.MethodName)) ∈ lw_tbl := lw_at lw_m1 203 rfl
theorem q312 : (Jvm.Cond.declares ({ cls := "java/lang/Throwable", name := "<init>", desc := "(Ljava/lang/String;)V" } : Jvm.MethodName)) ∈ lw_tbl := lw_at lw_m1 204 rfl
theorem q316 : (Jvm.Cond.lays "java/lang/Throwable" "java/lang/Throwable" "cause" "Ljava/lang/Throwable;") ∈ lw_all := lw_g (lw_at lw_m1 208 rfl) rfl
theorem q318 : (Jvm.Cond.lays "java/lang/Throwable" "java/lang/Throwable" "stackTrace" "[Ljava/lang/StackTraceElement;") ∈ lw_all := lw_g (lw_at lw_m1 210 rfl) rfl
theorem q320 : (Jvm.Cond.lays "java/lang/Throwable" "java/lang/Throwable" "suppressedExceptions" "Ljava/util/List;") ∈ lw_all := lw_g (lw_at lw_m1 212 rfl) rfl
theorem q322 : (Jvm.Cond.lays "java/lang/Throwable" "java/lang/Throwable" "detailMessage" "Ljava/lang/String;") ∈ lw_all := lw_g (lw_at lw_m1 214 rfl) rfl
theorem q324 : (Jvm.Cond.lays "java/lang/Throwable" "java/lang/Throwable" "backtrace" "Ljava/lang/Object;") ∈ lw_all := lw_g (lw_at lw_m1 216 rfl) rfl
theorem q325 : (Jvm.Cond.fieldLink "java/lang/Throwable" (198 : Nat) "java/lang/Throwable" "backtrace" "Ljava/lang/Object;") ∈ lw_all := lw_g (lw_at lw_m1 217 rfl) rfl
theorem q326 : (Jvm.Cond.superclass "java/lang/Throwable" "java/lang/Object") ∈ lw_all := lw_g (lw_at lw_m1 218 rfl) rfl
theorem q327 : (Jvm.Cond.instanceMethod ({ cls := "java/lang/Throwable", name := "<init>", desc := "()V" } : Jvm.MethodName)) ∈ lw_all := lw_g (lw_at lw_m1 219 rfl) rfl
theorem q328 : (Jvm.Cond.code ({ cls := "java/lang/Throwable", name := "<init>", desc := "()V" } : Jvm.MethodName) prog_35_method_1_code (1 : Nat) (Option.none : Option Jvm.ClassFile.FieldType)) ∈ lw_all := lw_g (lw_at lw_m1 220 rfl) rfl
theorem q329 : (Jvm.Cond.methodLink "java/lang/Throwable" (1 : Nat) ({ cls := "java/lang/Object", name := "<init>", desc := "()V" } : Jvm.MethodName)) ∈ lw_all := lw_g (lw_at lw_m1 221 rfl) rfl
theorem q330 : (Jvm.Cond.fieldLink "java/lang/Throwable" (13 : Nat) "java/lang/Throwable" "UNASSIGNED_STACK" "[Ljava/lang/StackTraceElement;") ∈ lw_all := lw_g (lw_at lw_m1 222 rfl) rfl
theorem q331 : (Jvm.Cond.laysStatic "java/lang/Throwable" "UNASSIGNED_STACK" "[Ljava/lang/StackTraceElement;") ∈ lw_tbl := lw_at lw_m1 223 rfl
theorem q332 : (Jvm.Cond.fieldLink "java/lang/Throwable" (20 : Nat) "java/lang/Throwable" "SUPPRESSED_SENTINEL" "Ljava/util/List;") ∈ lw_all := lw_g (lw_at lw_m1 224 rfl) rfl
theorem q333 : (Jvm.Cond.laysStatic "java/lang/Throwable" "SUPPRESSED_SENTINEL" "Ljava/util/List;") ∈ lw_tbl := lw_at lw_m1 225 rfl
theorem q334 : (Jvm.Cond.methodLink "java/lang/Throwable" (27 : Nat) ({ cls := "java/lang/Throwable", name := "fillInStackTrace", desc := "()Ljava/lang/Throwable;" } : Jvm.MethodName)) ∈ lw_all := lw_g (lw_at lw_m1 226 rfl) rfl
theorem q335 : (Jvm.Cond.instanceMethod ({ cls := "java/lang/Throwable", name := "fillInStackTrace", desc := "()Ljava/lang/Throwable;" } : Jvm.MethodName)) ∈ lw_all := lw_g (lw_at lw_m1 227 rfl) rfl
theorem q336 : (Jvm.Cond.sameMethod "java/lang/Throwable" "java/lang/Throwable" "fillInStackTrace" "()Ljava/lang/Throwable;") ∈ lw_all := lw_g (lw_at lw_m1 228 rfl) rfl
theorem q342 : (Jvm.Cond.codeSync ({ cls := "java/lang/Throwable", name := "fillInStackTrace", desc := "()Ljava/lang/Throwable;" } : Jvm.MethodName) prog_35_method_18_code (1 : Nat) (Option.some (Jvm.ClassFile.FieldType.object "java/lang/Throwable"))) ∈ lw_all := lw_g (lw_at lw_m1 234 rfl) rfl
theorem q343 : (Jvm.Cond.methodLink "java/lang/Throwable" (202 : Nat) ({ cls := "java/lang/Throwable", name := "fillInStackTrace", desc := "(I)Ljava/lang/Throwable;" } : Jvm.MethodName)) ∈ lw_all := lw_g (lw_at lw_m1 235 rfl) rfl
theorem q344 : (Jvm.Cond.privateMethod ({ cls := "java/lang/Throwable", name := "fillInStackTrace", desc := "(I)Ljava/lang/Throwable;" } : Jvm.MethodName)) ∈ lw_tbl := lw_at lw_m1 236 rfl
theorem q345 : (Jvm.Cond.instanceMethod ({ cls := "java/lang/Throwable", name := "fillInStackTrace", desc := "(I)Ljava/lang/Throwable;" } : Jvm.MethodName)) ∈ lw_all := lw_g (lw_at lw_m1 237 rfl) rfl
theorem q346 : (Jvm.Cond.instantiable "java/lang/Throwable" (6 : Nat)) ∈ lw_all := lw_g (lw_at lw_m1 238 rfl) rfl
theorem q347 : (Jvm.Cond.native ({ cls := "java/lang/Throwable", name := "fillInStackTrace", desc := "(I)Ljava/lang/Throwable;" } : Jvm.MethodName)) ∈ lw_all := lw_g (lw_at lw_m1 239 rfl) rfl
theorem q578 : (Jvm.Cond.instanceMethod ({ cls := "java/lang/Throwable", name := "<init>", desc := "(Ljava/lang/String;)V" } : Jvm.MethodName)) ∈ lw_all := lw_g (lw_at lw_m2 230 rfl) rfl
theorem q579 : (Jvm.Cond.code ({ cls := "java/lang/Throwable", name := "<init>", desc := "(Ljava/lang/String;)V" } : Jvm.MethodName) prog_35_method_2_code (2 : Nat) (Option.none : Option Jvm.ClassFile.FieldType)) ∈ lw_all := lw_g (lw_at lw_m2 231 rfl) rfl
theorem q580 : (Jvm.Cond.fieldLink "java/lang/Throwable" (198 : Nat) "java/lang/Throwable" "backtrace" "Ljava/lang/Object;") ∈ lw_all := lw_g (lw_at lw_m2 232 rfl) rfl
theorem q581 : (Jvm.Cond.fieldLink "java/lang/Throwable" (31 : Nat) "java/lang/Throwable" "detailMessage" "Ljava/lang/String;") ∈ lw_all := lw_g (lw_at lw_m2 233 rfl) rfl
theorem q582 : (Jvm.Cond.fieldLink "java/lang/Throwable" (7 : Nat) "java/lang/Throwable" "cause" "Ljava/lang/Throwable;") ∈ lw_all := lw_g (lw_at lw_m2 234 rfl) rfl
theorem q583 : (Jvm.Cond.fieldLink "java/lang/Throwable" (17 : Nat) "java/lang/Throwable" "stackTrace" "[Ljava/lang/StackTraceElement;") ∈ lw_all := lw_g (lw_at lw_m2 235 rfl) rfl
theorem q584 : (Jvm.Cond.fieldLink "java/lang/Throwable" (24 : Nat) "java/lang/Throwable" "suppressedExceptions" "Ljava/util/List;") ∈ lw_all := lw_g (lw_at lw_m2 236 rfl) rfl
theorem q585 : (Jvm.Cond.soleField "java/lang/Throwable" "backtrace") ∈ lw_all := lw_g (lw_at lw_m2 237 rfl) rfl
theorem q586 : (Jvm.Cond.soleField "java/lang/Throwable" "detailMessage") ∈ lw_all := lw_g (lw_at lw_m2 238 rfl) rfl
theorem q587 : (Jvm.Cond.soleField "java/lang/Throwable" "cause") ∈ lw_all := lw_g (lw_at lw_m2 239 rfl) rfl
theorem q588 : (Jvm.Cond.soleField "java/lang/Throwable" "stackTrace") ∈ lw_all := lw_g (lw_at lw_m3 0 rfl) rfl
theorem q590 : (Jvm.Cond.soleField "java/lang/Throwable" "depth") ∈ lw_all := lw_g (lw_at lw_m3 2 rfl) rfl
theorem q591 : (Jvm.Cond.soleField "java/lang/Throwable" "suppressedExceptions") ∈ lw_all := lw_g (lw_at lw_m3 3 rfl) rfl
theorem q1228 : (Jvm.Cond.instanceMethod ({ cls := "java/lang/Throwable", name := "<init>", desc := "(Ljava/lang/Throwable;)V" } : Jvm.MethodName)) ∈ lw_all := lw_g (lw_at lw_m5 160 rfl) rfl
theorem q1229 : (Jvm.Cond.code ({ cls := "java/lang/Throwable", name := "<init>", desc := "(Ljava/lang/Throwable;)V" } : Jvm.MethodName) prog_35_method_4_code (2 : Nat) (Option.none : Option Jvm.ClassFile.FieldType)) ∈ lw_all := lw_g (lw_at lw_m5 161 rfl) rfl
theorem q1230 : (Jvm.Cond.methodLink "java/lang/Throwable" (35 : Nat) ({ cls := "java/lang/Throwable", name := "toString", desc := "()Ljava/lang/String;" } : Jvm.MethodName)) ∈ lw_all := lw_g (lw_at lw_m5 162 rfl) rfl
theorem q1231 : (Jvm.Cond.instanceMethod ({ cls := "java/lang/Throwable", name := "toString", desc := "()Ljava/lang/String;" } : Jvm.MethodName)) ∈ lw_all := lw_g (lw_at lw_m5 163 rfl) rfl
theorem q1232 : (Jvm.Cond.sameMethod "java/lang/Throwable" "java/lang/Throwable" "toString" "()Ljava/lang/String;") ∈ lw_all := lw_g (lw_at lw_m5 164 rfl) rfl
theorem q1239 : (Jvm.Cond.code ({ cls := "java/lang/Throwable", name := "toString", desc := "()Ljava/lang/String;" } : Jvm.MethodName) prog_35_method_11_code (3 : Nat) (Option.some (Jvm.ClassFile.FieldType.object "java/lang/String"))) ∈ lw_all := lw_g (lw_at lw_m5 171 rfl) rfl
theorem q1240 : (Jvm.Cond.methodLink "java/lang/Throwable" (69 : Nat) ({ cls := "java/lang/Object", name := "getClass", desc := "()Ljava/lang/Class;" } : Jvm.MethodName)) ∈ lw_all := lw_g (lw_at lw_m5 172 rfl) rfl
theorem q1241 : (Jvm.Cond.methodLink "java/lang/Throwable" (78 : Nat) ({ cls := "java/lang/Throwable", name := "getLocalizedMessage", desc := "()Ljava/lang/String;" } : Jvm.MethodName)) ∈ lw_all := lw_g (lw_at lw_m5 173 rfl) rfl
theorem q1242 : (Jvm.Cond.instanceMethod ({ cls := "java/lang/Throwable", name := "getLocalizedMessage", desc := "()Ljava/lang/String;" } : Jvm.MethodName)) ∈ lw_all := lw_g (lw_at lw_m5 174 rfl) rfl
theorem q1243 : (Jvm.Cond.sameMethod "java/lang/Throwable" "java/lang/Throwable" "getLocalizedMessage" "()Ljava/lang/String;") ∈ lw_all := lw_g (lw_at lw_m5 175 rfl) rfl
theorem q1250 : (Jvm.Cond.code ({ cls := "java/lang/Throwable", name := "getLocalizedMessage", desc := "()Ljava/lang/String;" } : Jvm.MethodName) prog_35_method_7_code (1 : Nat) (Option.some (Jvm.ClassFile.FieldType.object "java/lang/String"))) ∈ lw_all := lw_g (lw_at lw_m5 182 rfl) rfl
theorem q1251 : (Jvm.Cond.methodLink "java/lang/Throwable" (39 : Nat) ({ cls := "java/lang/Throwable", name := "getMessage", desc := "()Ljava/lang/String;" } : Jvm.MethodName)) ∈ lw_all := lw_g (lw_at lw_m5 183 rfl) rfl
theorem q1252 : (Jvm.Cond.instanceMethod ({ cls := "java/lang/Throwable", name := "getMessage", desc := "()Ljava/lang/String;" } : Jvm.MethodName)) ∈ lw_all := lw_g (lw_at lw_m5 184 rfl) rfl
theorem q1253 : (Jvm.Cond.sameMethod "java/lang/Throwable" "java/lang/Throwable" "getMessage" "()Ljava/lang/String;") ∈ lw_all := lw_g (lw_at lw_m5 185 rfl) rfl
theorem q1260 : (Jvm.Cond.code ({ cls := "java/lang/Throwable", name := "getMessage", desc := "()Ljava/lang/String;" } : Jvm.MethodName) prog_35_method_6_code (1 : Nat) (Option.some (Jvm.ClassFile.FieldType.object "java/lang/String"))) ∈ lw_all := lw_g (lw_at lw_m5 192 rfl) rfl
theorem q1261 : (Jvm.Cond.classLink "java/lang/Throwable" (44 : Nat) "java/lang/StringBuilder") ∈ lw_all := lw_g (lw_at lw_m5 193 rfl) rfl
theorem q1262 : (Jvm.Cond.methodLink "java/lang/Throwable" (46 : Nat) ({ cls := "java/lang/StringBuilder", name := "<init>", desc := "()V" } : Jvm.MethodName)) ∈ lw_all := lw_g (lw_at lw_m5 194 rfl) rfl
theorem q1263 : (Jvm.Cond.methodLink "java/lang/Throwable" (49 : Nat) ({ cls := "java/lang/StringBuilder", name := "append", desc := "(Ljava/lang/String;)Ljava/lang/StringBuilder;" } : Jvm.MethodName)) ∈ lw_all := lw_g (lw_at lw_m5 195 rfl) rfl
theorem q1264 : (Jvm.Cond.stringRef "java/lang/Throwable" (81 : Nat) ": ") ∈ lw_tbl := lw_at lw_m5 196 rfl
theorem q1265 : (Jvm.Cond.methodLink "java/lang/Throwable" (60 : Nat) ({ cls := "java/lang/StringBuilder", name := "toString", desc := "()Ljava/lang/String;" } : Jvm.MethodName)) ∈ lw_all := lw_g (lw_at lw_m5 197 rfl) rfl
theorem q3097 : (Jvm.Cond.sameMethod "java/lang/Throwable" "java/lang/Throwable" "fillInStackTrace" "(I)Ljava/lang/Throwable;") ∈ lw_all := lw_g (lw_at lw_m13 109 rfl) rfl
theorem q3146 : (Jvm.Cond.castable "java/lang/Throwable" "java/lang/Object") ∈ lw_tbl := lw_at lw_m13 158 rfl
theorem q120 : (Jvm.Cond.initialized "java/lang/Exception") ∈ lw_all := lw_g (lw_at lw_m1 12 rfl) rfl
theorem q309 : (Jvm.Cond.declares ({ cls := "java/lang/Exception", name := "<init>", desc := "()V" } : Jvm.MethodName)) ∈ lw_tbl := lw_at lw_m1 201 rfl
theorem q310 : (Jvm.Cond.declares ({ cls := "java/lang/Exception", name := "<init>", desc := "(Ljava/lang/String;)V" } : Jvm.MethodName)) ∈ lw_tbl := lw_at lw_m1 202 rfl
theorem q575 : (Jvm.Cond.instanceMethod ({ cls := "java/lang/Exception", name := "<init>", desc := "(Ljava/lang/String;)V" } : Jvm.MethodName)) ∈ lw_all := lw_g (lw_at lw_m2 227 rfl) rfl
theorem q576 : (Jvm.Cond.code ({ cls := "java/lang/Exception", name := "<init>", desc := "(Ljava/lang/String;)V" } : Jvm.MethodName) prog_20_method_2_code (2 : Nat) (Option.none : Option Jvm.ClassFile.FieldType)) ∈ lw_all := lw_g (lw_at lw_m2 228 rfl) rfl
theorem q577 : (Jvm.Cond.methodLink "java/lang/Exception" (7 : Nat) ({ cls := "java/lang/Throwable", name := "<init>", desc := "(Ljava/lang/String;)V" } : Jvm.MethodName)) ∈ lw_all := lw_g (lw_at lw_m2 229 rfl) rfl
theorem q1225 : (Jvm.Cond.instanceMethod ({ cls := "java/lang/Exception", name := "<init>", desc := "(Ljava/lang/Throwable;)V" } : Jvm.MethodName)) ∈ lw_all := lw_g (lw_at lw_m5 157 rfl) rfl
theorem q1226 : (Jvm.Cond.code ({ cls := "java/lang/Exception", name := "<init>", desc := "(Ljava/lang/Throwable;)V" } : Jvm.MethodName) prog_20_method_4_code (2 : Nat) (Option.none : Option Jvm.ClassFile.FieldType)) ∈ lw_all := lw_g (lw_at lw_m5 158 rfl) rfl
theorem q1227 : (Jvm.Cond.methodLink "java/lang/Exception" (13 : Nat) ({ cls := "java/lang/Throwable", name := "<init>", desc := "(Ljava/lang/Throwable;)V" } : Jvm.MethodName)) ∈ lw_all := lw_g (lw_at lw_m5 159 rfl) rfl
theorem q1281 : (Jvm.Cond.instanceMethod ({ cls := "java/lang/Exception", name := "<init>", desc := "()V" } : Jvm.MethodName)) ∈ lw_all := lw_g (lw_at lw_m5 213 rfl) rfl
theorem q1282 : (Jvm.Cond.code ({ cls := "java/lang/Exception", name := "<init>", desc := "()V" } : Jvm.MethodName) prog_20_method_1_code (1 : Nat) (Option.none : Option Jvm.ClassFile.FieldType)) ∈ lw_all := lw_g (lw_at lw_m5 214 rfl) rfl
theorem q1283 : (Jvm.Cond.methodLink "java/lang/Exception" (1 : Nat) ({ cls := "java/lang/Throwable", name := "<init>", desc := "()V" } : Jvm.MethodName)) ∈ lw_all := lw_g (lw_at lw_m5 215 rfl) rfl
theorem q414 : (Jvm.Cond.sameMethod "[B" "java/lang/Object" "clone" "()Ljava/lang/Object;") ∈ lw_all := lw_g (lw_at lw_m2 66 rfl) rfl
theorem q417 : (Jvm.Cond.selects "[B" ({ cls := "[B", name := "clone", desc := "()Ljava/lang/Object;" } : Jvm.MethodName) ({ cls := "java/lang/Object", name := "clone", desc := "()Ljava/lang/Object;" } : Jvm.MethodName)) ∈ lw_all := lw_g (lw_at lw_m2 69 rfl) rfl
theorem q418 : (Jvm.Cond.castable "[B" "java/lang/Cloneable") ∈ lw_tbl := lw_at lw_m2 70 rfl
theorem q3153 : (Jvm.Cond.castable "[B" "java/lang/Object") ∈ lw_tbl := lw_at lw_m13 165 rfl
theorem q3156 : (Jvm.Cond.castable "[D" "java/lang/Object") ∈ lw_tbl := lw_at lw_m13 168 rfl
theorem q3150 : (Jvm.Cond.castable "[I" "java/lang/Object") ∈ lw_tbl := lw_at lw_m13 162 rfl
theorem q636 : (Jvm.Cond.sameMethod "[J" "java/lang/Object" "clone" "()Ljava/lang/Object;") ∈ lw_all := lw_g (lw_at lw_m3 48 rfl) rfl
theorem q637 : (Jvm.Cond.selects "[J" ({ cls := "[J", name := "clone", desc := "()Ljava/lang/Object;" } : Jvm.MethodName) ({ cls := "java/lang/Object", name := "clone", desc := "()Ljava/lang/Object;" } : Jvm.MethodName)) ∈ lw_all := lw_g (lw_at lw_m3 49 rfl) rfl
theorem q638 : (Jvm.Cond.castable "[J" "java/lang/Cloneable") ∈ lw_tbl := lw_at lw_m3 50 rfl
theorem q3151 : (Jvm.Cond.castable "[J" "java/lang/Object") ∈ lw_tbl := lw_at lw_m13 163 rfl
theorem q3147 : (Jvm.Cond.sameMethod "[Ljava/lang/Object;" "java/lang/Object" "getClass" "()Ljava/lang/Class;") ∈ lw_all := lw_g (lw_at lw_m13 159 rfl) rfl
theorem q3148 : (Jvm.Cond.selects "[Ljava/lang/Object;" ({ cls := "java/lang/Object", name := "getClass", desc := "()Ljava/lang/Class;" } : Jvm.MethodName) ({ cls := "java/lang/Object", name := "getClass", desc := "()Ljava/lang/Class;" } : Jvm.MethodName)) ∈ lw_all := lw_g (lw_at lw_m13 160 rfl) rfl
theorem q3152 : (Jvm.Cond.castable "[Ljava/lang/Object;" "java/lang/Object") ∈ lw_tbl := lw_at lw_m13 164 rfl
theorem q3155 : (Jvm.Cond.castable "[Z" "java/lang/Object") ∈ lw_tbl := lw_at lw_m13 167 rfl
theorem q3154 : (Jvm.Cond.castable "[[I" "java/lang/Object") ∈ lw_tbl := lw_at lw_m13 166 rfl
theorem q135 : (Jvm.Cond.initialized "java/lang/Integer$IntegerCache") ∈ lw_all := lw_g (lw_at lw_m1 27 rfl) rfl
theorem q661 : (Jvm.Cond.laysStatic "java/lang/Integer$IntegerCache" "high" "I") ∈ lw_tbl := lw_at lw_m3 73 rfl
theorem q663 : (Jvm.Cond.laysStatic "java/lang/Integer$IntegerCache" "cache" "[Ljava/lang/Integer;") ∈ lw_tbl := lw_at lw_m3 75 rfl
theorem q129 : (Jvm.Cond.initialized "java/lang/System") ∈ lw_all := lw_g (lw_at lw_m1 21 rfl) rfl
theorem q424 : (Jvm.Cond.static ({ cls := "java/lang/System", name := "arraycopy", desc := "(Ljava/lang/Object;ILjava/lang/Object;II)V" } : Jvm.MethodName)) ∈ lw_all := lw_g (lw_at lw_m2 76 rfl) rfl
theorem q425 : (Jvm.Cond.native ({ cls := "java/lang/System", name := "arraycopy", desc := "(Ljava/lang/Object;ILjava/lang/Object;II)V" } : Jvm.MethodName)) ∈ lw_all := lw_g (lw_at lw_m2 77 rfl) rfl
theorem q141 : (Jvm.Cond.initialized "java/util/AbstractList$ListItr") ∈ lw_all := lw_g (lw_at lw_m1 33 rfl) rfl
theorem q732 : (Jvm.Cond.selects "java/util/AbstractList$ListItr" ({ cls := "java/lang/Object", name := "getClass", desc := "()Ljava/lang/Class;" } : Jvm.MethodName) ({ cls := "java/lang/Object", name := "getClass", desc := "()Ljava/lang/Class;" } : Jvm.MethodName)) ∈ lw_all := lw_g (lw_at lw_m3 144 rfl) rfl
theorem q1125 : (Jvm.Cond.castable "java/util/AbstractList$ListItr" "java/util/Iterator") ∈ lw_tbl := lw_at lw_m5 57 rfl
theorem q1126 : (Jvm.Cond.selects "java/util/AbstractList$ListItr" ({ cls := "java/util/Iterator", name := "hasNext", desc := "()Z" } : Jvm.MethodName) ({ cls := "java/util/AbstractList$Itr", name := "hasNext", desc := "()Z" } : Jvm.MethodName)) ∈ lw_all := lw_g (lw_at lw_m5 58 rfl) rfl
theorem q1127 : (Jvm.Cond.unhidden "java/util/AbstractList$ListItr" "hasNext" "()Z") ∈ lw_tbl := lw_at lw_m5 59 rfl
theorem q1171 : (Jvm.Cond.selects "java/util/AbstractList$ListItr" ({ cls := "java/util/Iterator", name := "next", desc := "()Ljava/lang/Object;" } : Jvm.MethodName) ({ cls := "java/util/AbstractList$Itr", name := "next", desc := "()Ljava/lang/Object;" } : Jvm.MethodName)) ∈ lw_all := lw_g (lw_at lw_m5 103 rfl) rfl
theorem q1172 : (Jvm.Cond.unhidden "java/util/AbstractList$ListItr" "next" "()Ljava/lang/Object;") ∈ lw_tbl := lw_at lw_m5 104 rfl
theorem q1179 : (Jvm.Cond.selects "java/util/AbstractList$ListItr" ({ cls := "java/util/AbstractList$Itr", name := "checkForComodification", desc := "()V" } : Jvm.MethodName) ({ cls := "java/util/AbstractList$Itr", name := "checkForComodification", desc := "()V" } : Jvm.MethodName)) ∈ lw_all := lw_g (lw_at lw_m5 111 rfl) rfl
theorem q1668 : (Jvm.Cond.selects "java/util/AbstractList$ListItr" ({ cls := "java/util/Iterator", name := "remove", desc := "()V" } : Jvm.MethodName) ({ cls := "java/util/AbstractList$Itr", name := "remove", desc := "()V" } : Jvm.MethodName)) ∈ lw_all := lw_g (lw_at lw_m7 120 rfl) rfl
theorem q1669 : (Jvm.Cond.unhidden "java/util/AbstractList$ListItr" "remove" "()V") ∈ lw_tbl := lw_at lw_m7 121 rfl
theorem q3132 : (Jvm.Cond.castable "java/util/AbstractList$ListItr" "java/lang/Object") ∈ lw_tbl := lw_at lw_m13 144 rfl
theorem q3157 : (Jvm.Cond.fieldLink "java/util/AbstractList$ListItr" (1 : Nat) "java/util/AbstractList$ListItr" "this$0" "Ljava/util/AbstractList;") ∈ lw_all := lw_g (lw_at lw_m13 169 rfl) rfl
theorem q3162 : (Jvm.Cond.fieldLink "java/util/AbstractList$ListItr" (13 : Nat) "java/util/AbstractList$ListItr" "cursor" "I") ∈ lw_all := lw_g (lw_at lw_m13 174 rfl) rfl
theorem q3163 : (Jvm.Cond.sameField "java/util/AbstractList$ListItr" "java/util/AbstractList$Itr" "cursor" "I") ∈ lw_all := lw_g (lw_at lw_m13 175 rfl) rfl
theorem q1123 : (Jvm.Cond.interfaceMethod "java/util/Iterator" "java/util/Iterator" "hasNext" "()Z") ∈ lw_tbl := lw_at lw_m5 55 rfl
theorem q1124 : (Jvm.Cond.declares ({ cls := "java/util/Iterator", name := "hasNext", desc := "()Z" } : Jvm.MethodName)) ∈ lw_tbl := lw_at lw_m5 56 rfl
theorem q1169 : (Jvm.Cond.interfaceMethod "java/util/Iterator" "java/util/Iterator" "next" "()Ljava/lang/Object;") ∈ lw_tbl := lw_at lw_m5 101 rfl
theorem q1170 : (Jvm.Cond.declares ({ cls := "java/util/Iterator", name := "next", desc := "()Ljava/lang/Object;" } : Jvm.MethodName)) ∈ lw_tbl := lw_at lw_m5 102 rfl
theorem q1666 : (Jvm.Cond.interfaceMethod "java/util/Iterator" "java/util/Iterator" "remove" "()V") ∈ lw_tbl := lw_at lw_m7 118 rfl
theorem q1667 : (Jvm.Cond.declares ({ cls := "java/util/Iterator", name := "remove", desc := "()V" } : Jvm.MethodName)) ∈ lw_tbl := lw_at lw_m7 119 rfl
theorem q882 : (Jvm.Cond.interfaceMethod "java/util/List" "java/util/List" "size" "()I") ∈ lw_tbl := lw_at lw_m4 54 rfl
theorem q883 : (Jvm.Cond.declares ({ cls := "java/util/List", name := "size", desc := "()I" } : Jvm.MethodName)) ∈ lw_tbl := lw_at lw_m4 55 rfl
theorem q994 : (Jvm.Cond.interfaceMethod "java/util/List" "java/util/List" "iterator" "()Ljava/util/Iterator;") ∈ lw_tbl := lw_at lw_m4 166 rfl
theorem q995 : (Jvm.Cond.declares ({ cls := "java/util/List", name := "iterator", desc := "()Ljava/util/Iterator;" } : Jvm.MethodName)) ∈ lw_tbl := lw_at lw_m4 167 rfl
theorem q1348 : (Jvm.Cond.interfaceMethod "java/util/List" "java/util/List" "get" "(I)Ljava/lang/Object;") ∈ lw_tbl := lw_at lw_m6 40 rfl
theorem q1349 : (Jvm.Cond.declares ({ cls := "java/util/List", name := "get", desc := "(I)Ljava/lang/Object;" } : Jvm.MethodName)) ∈ lw_tbl := lw_at lw_m6 41 rfl
theorem q1537 : (Jvm.Cond.interfaceMethod "java/util/List" "java/util/List" "add" "(Ljava/lang/Object;)Z") ∈ lw_tbl := lw_at lw_m6 229 rfl
theorem q1538 : (Jvm.Cond.declares ({ cls := "java/util/List", name := "add", desc := "(Ljava/lang/Object;)Z" } : Jvm.MethodName)) ∈ lw_tbl := lw_at lw_m6 230 rfl
theorem q222 : (Jvm.Cond.arrayClass Jvm.ClassFile.FieldType.int) ∈ lw_all := lw_g (lw_at lw_m1 114 rfl) rfl
theorem q246 : (Jvm.Cond.arrayClass Jvm.ClassFile.FieldType.long) ∈ lw_all := lw_g (lw_at lw_m1 138 rfl) rfl
theorem q254 : (Jvm.Cond.arrayOver (Jvm.ClassFile.FieldType.object "java/lang/Object")) ∈ lw_tbl := lw_at lw_m1 146 rfl
theorem q378 : (Jvm.Cond.arrayClass Jvm.ClassFile.FieldType.byte) ∈ lw_all := lw_g (lw_at lw_m2 30 rfl) rfl
theorem q2518 : (Jvm.Cond.arrayOver (Jvm.ClassFile.FieldType.array Jvm.ClassFile.FieldType.int)) ∈ lw_tbl := lw_at lw_m11 10 rfl
theorem q2708 : (Jvm.Cond.arrayClass Jvm.ClassFile.FieldType.boolean) ∈ lw_all := lw_g (lw_at lw_m11 200 rfl) rfl
theorem q3096 : (Jvm.Cond.arrayClass Jvm.ClassFile.FieldType.double) ∈ lw_all := lw_g (lw_at lw_m13 108 rfl) rfl
