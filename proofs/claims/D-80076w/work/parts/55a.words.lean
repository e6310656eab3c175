/-! words of the library, by program (jw.py) -/
theorem jw_1_6 : Cond.initialized "java/lang/String" ∈ ga_gw := am_at_c (k := 1) (i := 6) rfl rfl
theorem jw_1_7 : Cond.initialized "java/lang/StringLatin1" ∈ ga_gw := am_at_c (k := 1) (i := 7) rfl rfl
theorem jw_1_8 : Cond.initialized "jdk/internal/util/Preconditions" ∈ ga_gw := am_at_c (k := 1) (i := 8) rfl rfl
theorem jw_1_10 : Cond.initialized "java/lang/System" ∈ ga_gw := am_at_c (k := 1) (i := 10) rfl rfl
theorem jw_1_11 : Cond.initialized "java/lang/Math" ∈ ga_gw := am_at_c (k := 1) (i := 11) rfl rfl
theorem jw_1_13 : Cond.initialized "java/util/Arrays" ∈ ga_gw := am_at_c (k := 1) (i := 13) rfl rfl
theorem jw_1_15 : Cond.initialized "java/lang/Enum" ∈ ga_gw := am_at_c (k := 1) (i := 15) rfl rfl
theorem jw_1_25 : Cond.methodLink "RuleSentences" 1 ⟨"java/lang/Object", "<init>", "()V"⟩ ∈ ga_gw := am_at_c (k := 1) (i := 25) rfl rfl
theorem jw_1_26 : Cond.instanceMethod ⟨"java/lang/Object", "<init>", "()V"⟩ ∈ ga_gw := am_at_c (k := 1) (i := 26) rfl rfl
theorem jw_1_27 : Cond.code ⟨"java/lang/Object", "<init>", "()V"⟩ object_method_1_code 1 none ∈ ga_gw := am_at_c (k := 1) (i := 27) rfl rfl
theorem jw_1_33 : Cond.methodLink "RuleSentences$World" 3 ⟨"java/lang/Object", "<init>", "()V"⟩ ∈ ga_gw := am_at_c (k := 1) (i := 33) rfl rfl
theorem jw_1_39 : Cond.methodLink "RuleSentences$Words" 3 ⟨"java/lang/Object", "<init>", "()V"⟩ ∈ ga_gw := am_at_c (k := 1) (i := 39) rfl rfl
theorem jw_1_88 : Cond.methodLink "RuleSentences$Rule" 3 ⟨"java/lang/Object", "<init>", "()V"⟩ ∈ ga_gw := am_at_c (k := 1) (i := 88) rfl rfl
theorem jw_1_95 : Cond.methodLink "RuleSentences$Step" 1 ⟨"java/lang/Object", "<init>", "()V"⟩ ∈ ga_gw := am_at_c (k := 1) (i := 95) rfl rfl
theorem jw_1_215 : Cond.methodLink "RuleSentences$Words" 38 ⟨"java/lang/String", "length", "()I"⟩ ∈ ga_gw := am_at_c (k := 1) (i := 215) rfl rfl
theorem jw_1_216 : Cond.instanceMethod ⟨"java/lang/String", "length", "()I"⟩ ∈ ga_gw := am_at_c (k := 1) (i := 216) rfl rfl
theorem jw_1_217 : Cond.selects "java/lang/String" ⟨"java/lang/String", "length", "()I"⟩ ⟨"java/lang/String", "length", "()I"⟩ ∈ ga_gw := am_at_c (k := 1) (i := 217) rfl rfl
theorem jw_1_218 : Cond.code ⟨"java/lang/String", "length", "()I"⟩ prog_16_method_54_code 1 (some .int) ∈ ga_gw := am_at_c (k := 1) (i := 218) rfl rfl
theorem jw_1_219 : Cond.methodLink "java/lang/String" 335 ⟨"java/lang/String", "coder", "()B"⟩ ∈ ga_gw := am_at_c (k := 1) (i := 219) rfl rfl
theorem jw_1_220 : Cond.instanceMethod ⟨"java/lang/String", "coder", "()B"⟩ ∈ ga_gw := am_at_c (k := 1) (i := 220) rfl rfl
theorem jw_1_221 : Cond.selects "java/lang/String" ⟨"java/lang/String", "coder", "()B"⟩ ⟨"java/lang/String", "coder", "()B"⟩ ∈ ga_gw := am_at_c (k := 1) (i := 221) rfl rfl
theorem jw_1_222 : Cond.code ⟨"java/lang/String", "coder", "()B"⟩ prog_16_method_152_code 1 (some .byte) ∈ ga_gw := am_at_c (k := 1) (i := 222) rfl rfl
theorem jw_1_223 : Cond.fieldLink "java/lang/String" 38 "java/lang/String" "COMPACT_STRINGS" "Z" ∈ ga_gw := am_at_c (k := 1) (i := 223) rfl rfl
theorem jw_1_225 : Cond.methodLink "RuleSentences$Words" 47 ⟨"java/lang/String", "charAt", "(I)C"⟩ ∈ ga_gw := am_at_c (k := 1) (i := 225) rfl rfl
theorem jw_1_226 : Cond.instanceMethod ⟨"java/lang/String", "charAt", "(I)C"⟩ ∈ ga_gw := am_at_c (k := 1) (i := 226) rfl rfl
theorem jw_1_227 : Cond.selects "java/lang/String" ⟨"java/lang/String", "charAt", "(I)C"⟩ ⟨"java/lang/String", "charAt", "(I)C"⟩ ∈ ga_gw := am_at_c (k := 1) (i := 227) rfl rfl
theorem jw_1_228 : Cond.code ⟨"java/lang/String", "charAt", "(I)C"⟩ prog_16_method_56_code 2 (some .char) ∈ ga_gw := am_at_c (k := 1) (i := 228) rfl rfl
theorem jw_1_229 : Cond.methodLink "java/lang/String" 492 ⟨"java/lang/String", "isLatin1", "()Z"⟩ ∈ ga_gw := am_at_c (k := 1) (i := 229) rfl rfl
theorem jw_1_230 : Cond.instanceMethod ⟨"java/lang/String", "isLatin1", "()Z"⟩ ∈ ga_gw := am_at_c (k := 1) (i := 230) rfl rfl
theorem jw_1_231 : Cond.selects "java/lang/String" ⟨"java/lang/String", "isLatin1", "()Z"⟩ ⟨"java/lang/String", "isLatin1", "()Z"⟩ ∈ ga_gw := am_at_c (k := 1) (i := 231) rfl rfl
theorem jw_1_232 : Cond.code ⟨"java/lang/String", "isLatin1", "()Z"⟩ prog_16_method_154_code 1 (some .boolean) ∈ ga_gw := am_at_c (k := 1) (i := 232) rfl rfl
theorem jw_1_233 : Cond.methodLink "java/lang/String" 495 ⟨"java/lang/StringLatin1", "charAt", "([BI)C"⟩ ∈ ga_gw := am_at_c (k := 1) (i := 233) rfl rfl
theorem jw_1_234 : Cond.static ⟨"java/lang/StringLatin1", "charAt", "([BI)C"⟩ ∈ ga_gw := am_at_c (k := 1) (i := 234) rfl rfl
theorem jw_1_235 : Cond.code ⟨"java/lang/StringLatin1", "charAt", "([BI)C"⟩ prog_17_method_2_code 2 (some .char) ∈ ga_gw := am_at_c (k := 1) (i := 235) rfl rfl
theorem jw_1_236 : Cond.methodLink "java/lang/StringLatin1" 9 ⟨"java/lang/String", "checkIndex", "(II)V"⟩ ∈ ga_gw := am_at_c (k := 1) (i := 236) rfl rfl
theorem jw_1_237 : Cond.static ⟨"java/lang/String", "checkIndex", "(II)V"⟩ ∈ ga_gw := am_at_c (k := 1) (i := 237) rfl rfl
theorem jw_1_238 : Cond.code ⟨"java/lang/String", "checkIndex", "(II)V"⟩ prog_16_method_155_code 2 none ∈ ga_gw := am_at_c (k := 1) (i := 238) rfl rfl
theorem jw_1_239 : Cond.fieldLink "java/lang/String" 1053 "jdk/internal/util/Preconditions" "SIOOBE_FORMATTER" "Ljava/util/function/BiFunction;" ∈ ga_gw := am_at_c (k := 1) (i := 239) rfl rfl
theorem jw_2_1 : Cond.methodLink "java/lang/String" 1059 ⟨"jdk/internal/util/Preconditions", "checkIndex", "(IILjava/util/function/BiFunction;)I"⟩ ∈ ga_gw := am_at_c (k := 2) (i := 1) rfl rfl
theorem jw_2_2 : Cond.static ⟨"jdk/internal/util/Preconditions", "checkIndex", "(IILjava/util/function/BiFunction;)I"⟩ ∈ ga_gw := am_at_c (k := 2) (i := 2) rfl rfl
theorem jw_2_3 : Cond.code ⟨"jdk/internal/util/Preconditions", "checkIndex", "(IILjava/util/function/BiFunction;)I"⟩ prog_21_method_11_code 3 (some .int) ∈ ga_gw := am_at_c (k := 2) (i := 3) rfl rfl
theorem jw_2_27 : Cond.methodLink "RuleSentences$Words" 74 ⟨"java/lang/System", "arraycopy", "(Ljava/lang/Object;ILjava/lang/Object;II)V"⟩ ∈ ga_gw := am_at_c (k := 2) (i := 27) rfl rfl
theorem jw_2_28 : Cond.static ⟨"java/lang/System", "arraycopy", "(Ljava/lang/Object;ILjava/lang/Object;II)V"⟩ ∈ ga_gw := am_at_c (k := 2) (i := 28) rfl rfl
theorem jw_2_29 : Cond.native ⟨"java/lang/System", "arraycopy", "(Ljava/lang/Object;ILjava/lang/Object;II)V"⟩ ∈ ga_gw := am_at_c (k := 2) (i := 29) rfl rfl
theorem jw_2_66 : Cond.methodLink "RuleSentences$World" 245 ⟨"java/lang/String", "indexOf", "(II)I"⟩ ∈ ga_gw := am_at_c (k := 2) (i := 66) rfl rfl
theorem jw_2_67 : Cond.instanceMethod ⟨"java/lang/String", "indexOf", "(II)I"⟩ ∈ ga_gw := am_at_c (k := 2) (i := 67) rfl rfl
theorem jw_2_68 : Cond.selects "java/lang/String" ⟨"java/lang/String", "indexOf", "(II)I"⟩ ⟨"java/lang/String", "indexOf", "(II)I"⟩ ∈ ga_gw := am_at_c (k := 2) (i := 68) rfl rfl
theorem jw_2_69 : Cond.code ⟨"java/lang/String", "indexOf", "(II)I"⟩ prog_16_method_80_code 3 (some .int) ∈ ga_gw := am_at_c (k := 2) (i := 69) rfl rfl
theorem jw_2_70 : Cond.methodLink "java/lang/String" 505 ⟨"java/lang/String", "length", "()I"⟩ ∈ ga_gw := am_at_c (k := 2) (i := 70) rfl rfl
theorem jw_2_71 : Cond.methodLink "java/lang/String" 637 ⟨"java/lang/StringLatin1", "indexOf", "([BIII)I"⟩ ∈ ga_gw := am_at_c (k := 2) (i := 71) rfl rfl
theorem jw_2_72 : Cond.static ⟨"java/lang/StringLatin1", "indexOf", "([BIII)I"⟩ ∈ ga_gw := am_at_c (k := 2) (i := 72) rfl rfl
theorem jw_2_73 : Cond.code ⟨"java/lang/StringLatin1", "indexOf", "([BIII)I"⟩ prog_17_method_22_code 4 (some .int) ∈ ga_gw := am_at_c (k := 2) (i := 73) rfl rfl
theorem jw_2_74 : Cond.methodLink "java/lang/StringLatin1" 88 ⟨"java/lang/StringLatin1", "canEncode", "(I)Z"⟩ ∈ ga_gw := am_at_c (k := 2) (i := 74) rfl rfl
theorem jw_2_75 : Cond.static ⟨"java/lang/StringLatin1", "canEncode", "(I)Z"⟩ ∈ ga_gw := am_at_c (k := 2) (i := 75) rfl rfl
theorem jw_2_76 : Cond.code ⟨"java/lang/StringLatin1", "canEncode", "(I)Z"⟩ prog_17_method_4_code 1 (some .boolean) ∈ ga_gw := am_at_c (k := 2) (i := 76) rfl rfl
theorem jw_2_77 : Cond.methodLink "java/lang/StringLatin1" 92 ⟨"java/lang/Math", "max", "(II)I"⟩ ∈ ga_gw := am_at_c (k := 2) (i := 77) rfl rfl
theorem jw_2_78 : Cond.static ⟨"java/lang/Math", "max", "(II)I"⟩ ∈ ga_gw := am_at_c (k := 2) (i := 78) rfl rfl
theorem jw_2_79 : Cond.code ⟨"java/lang/Math", "max", "(II)I"⟩ prog_15_method_65_code 2 (some .int) ∈ ga_gw := am_at_c (k := 2) (i := 79) rfl rfl
theorem jw_2_80 : Cond.methodLink "java/lang/StringLatin1" 38 ⟨"java/lang/Math", "min", "(II)I"⟩ ∈ ga_gw := am_at_c (k := 2) (i := 80) rfl rfl
theorem jw_2_81 : Cond.static ⟨"java/lang/Math", "min", "(II)I"⟩ ∈ ga_gw := am_at_c (k := 2) (i := 81) rfl rfl
theorem jw_2_82 : Cond.code ⟨"java/lang/Math", "min", "(II)I"⟩ prog_15_method_69_code 2 (some .int) ∈ ga_gw := am_at_c (k := 2) (i := 82) rfl rfl
theorem jw_2_83 : Cond.methodLink "java/lang/StringLatin1" 95 ⟨"java/lang/StringLatin1", "indexOfChar", "([BIII)I"⟩ ∈ ga_gw := am_at_c (k := 2) (i := 83) rfl rfl
theorem jw_2_84 : Cond.static ⟨"java/lang/StringLatin1", "indexOfChar", "([BIII)I"⟩ ∈ ga_gw := am_at_c (k := 2) (i := 84) rfl rfl
theorem jw_2_85 : Cond.code ⟨"java/lang/StringLatin1", "indexOfChar", "([BIII)I"⟩ prog_17_method_23_code 6 (some .int) ∈ ga_gw := am_at_c (k := 2) (i := 85) rfl rfl
theorem jw_2_99 : Cond.static ⟨"java/lang/String", "checkBoundsBeginEnd", "(III)V"⟩ ∈ ga_gw := am_at_c (k := 2) (i := 99) rfl rfl
theorem jw_2_100 : Cond.code ⟨"java/lang/String", "checkBoundsBeginEnd", "(III)V"⟩ prog_16_method_158_code 3 none ∈ ga_gw := am_at_c (k := 2) (i := 100) rfl rfl
theorem jw_2_101 : Cond.methodLink "java/lang/String" 1062 ⟨"jdk/internal/util/Preconditions", "checkFromToIndex", "(IIILjava/util/function/BiFunction;)I"⟩ ∈ ga_gw := am_at_c (k := 2) (i := 101) rfl rfl
theorem jw_2_102 : Cond.static ⟨"jdk/internal/util/Preconditions", "checkFromToIndex", "(IIILjava/util/function/BiFunction;)I"⟩ ∈ ga_gw := am_at_c (k := 2) (i := 102) rfl rfl
theorem jw_2_103 : Cond.code ⟨"jdk/internal/util/Preconditions", "checkFromToIndex", "(IIILjava/util/function/BiFunction;)I"⟩ prog_21_method_12_code 4 (some .int) ∈ ga_gw := am_at_c (k := 2) (i := 103) rfl rfl
theorem jw_2_121 : Cond.methodLink "RuleSentences$World" 251 ⟨"java/lang/String", "substring", "(II)Ljava/lang/String;"⟩ ∈ ga_gw := am_at_c (k := 2) (i := 121) rfl rfl
theorem jw_2_122 : Cond.instanceMethod ⟨"java/lang/String", "substring", "(II)Ljava/lang/String;"⟩ ∈ ga_gw := am_at_c (k := 2) (i := 122) rfl rfl
theorem jw_2_123 : Cond.selects "java/lang/String" ⟨"java/lang/String", "substring", "(II)Ljava/lang/String;"⟩ ⟨"java/lang/String", "substring", "(II)Ljava/lang/String;"⟩ ∈ ga_gw := am_at_c (k := 2) (i := 123) rfl rfl
theorem jw_2_124 : Cond.code ⟨"java/lang/String", "substring", "(II)Ljava/lang/String;"⟩ prog_16_method_92_code 5 (some (.object "java/lang/String")) ∈ ga_gw := am_at_c (k := 2) (i := 124) rfl rfl
theorem jw_2_125 : Cond.methodLink "java/lang/String" 521 ⟨"java/lang/String", "checkBoundsBeginEnd", "(III)V"⟩ ∈ ga_gw := am_at_c (k := 2) (i := 125) rfl rfl
theorem jw_2_126 : Cond.methodLink "java/lang/String" 685 ⟨"java/lang/StringLatin1", "newString", "([BII)Ljava/lang/String;"⟩ ∈ ga_gw := am_at_c (k := 2) (i := 126) rfl rfl
theorem jw_2_127 : Cond.static ⟨"java/lang/StringLatin1", "newString", "([BII)Ljava/lang/String;"⟩ ∈ ga_gw := am_at_c (k := 2) (i := 127) rfl rfl
theorem jw_2_128 : Cond.code ⟨"java/lang/StringLatin1", "newString", "([BII)Ljava/lang/String;"⟩ prog_17_method_47_code 3 (some (.object "java/lang/String")) ∈ ga_gw := am_at_c (k := 2) (i := 128) rfl rfl
theorem jw_2_130 : Cond.classLink "java/lang/StringLatin1" 1 "java/lang/String" ∈ ga_gw := am_at_c (k := 2) (i := 130) rfl rfl
theorem jw_2_131 : Cond.instantiable "java/lang/String" 4 ∈ ga_gw := am_at_c (k := 2) (i := 131) rfl rfl
theorem jw_2_132 : Cond.methodLink "java/lang/StringLatin1" 232 ⟨"java/util/Arrays", "copyOfRange", "([BII)[B"⟩ ∈ ga_gw := am_at_c (k := 2) (i := 132) rfl rfl
theorem jw_2_133 : Cond.static ⟨"java/util/Arrays", "copyOfRange", "([BII)[B"⟩ ∈ ga_gw := am_at_c (k := 2) (i := 133) rfl rfl
theorem jw_2_134 : Cond.code ⟨"java/util/Arrays", "copyOfRange", "([BII)[B"⟩ prog_20_method_132_code 3 (some (.array .byte)) ∈ ga_gw := am_at_c (k := 2) (i := 134) rfl rfl
theorem jw_2_135 : Cond.methodLink "java/util/Arrays" 339 ⟨"java/util/Arrays", "copyOfRangeByte", "([BII)[B"⟩ ∈ ga_gw := am_at_c (k := 2) (i := 135) rfl rfl
theorem jw_2_136 : Cond.static ⟨"java/util/Arrays", "copyOfRangeByte", "([BII)[B"⟩ ∈ ga_gw := am_at_c (k := 2) (i := 136) rfl rfl
theorem jw_2_137 : Cond.code ⟨"java/util/Arrays", "copyOfRangeByte", "([BII)[B"⟩ prog_20_method_133_code 5 (some (.array .byte)) ∈ ga_gw := am_at_c (k := 2) (i := 137) rfl rfl
theorem jw_2_138 : Cond.methodLink "java/util/Arrays" 343 ⟨"java/util/Arrays", "checkLength", "(II)V"⟩ ∈ ga_gw := am_at_c (k := 2) (i := 138) rfl rfl
theorem jw_2_139 : Cond.static ⟨"java/util/Arrays", "checkLength", "(II)V"⟩ ∈ ga_gw := am_at_c (k := 2) (i := 139) rfl rfl
theorem jw_2_140 : Cond.code ⟨"java/util/Arrays", "checkLength", "(II)V"⟩ prog_20_method_131_code 2 none ∈ ga_gw := am_at_c (k := 2) (i := 140) rfl rfl
theorem jw_2_141 : Cond.methodLink "java/util/Arrays" 304 ⟨"java/lang/Math", "min", "(II)I"⟩ ∈ ga_gw := am_at_c (k := 2) (i := 141) rfl rfl
theorem jw_2_142 : Cond.methodLink "java/util/Arrays" 150 ⟨"java/lang/System", "arraycopy", "(Ljava/lang/Object;ILjava/lang/Object;II)V"⟩ ∈ ga_gw := am_at_c (k := 2) (i := 142) rfl rfl
theorem jw_2_143 : Cond.methodLink "java/util/Arrays" 310 ⟨"[B", "clone", "()Ljava/lang/Object;"⟩ ∈ ga_gw := am_at_c (k := 2) (i := 143) rfl rfl
theorem jw_2_145 : Cond.native ⟨"java/lang/Object", "clone", "()Ljava/lang/Object;"⟩ ∈ ga_gw := am_at_c (k := 2) (i := 145) rfl rfl
theorem jw_2_146 : Cond.instanceMethod ⟨"java/lang/Object", "clone", "()Ljava/lang/Object;"⟩ ∈ ga_gw := am_at_c (k := 2) (i := 146) rfl rfl
theorem jw_2_149 : Cond.classLink "java/util/Arrays" 311 "[B" ∈ ga_gw := am_at_c (k := 2) (i := 149) rfl rfl
theorem jw_2_150 : Cond.methodLink "java/lang/StringLatin1" 112 ⟨"java/lang/String", "<init>", "([BB)V"⟩ ∈ ga_gw := am_at_c (k := 2) (i := 150) rfl rfl
theorem jw_2_151 : Cond.instanceMethod ⟨"java/lang/String", "<init>", "([BB)V"⟩ ∈ ga_gw := am_at_c (k := 2) (i := 151) rfl rfl
theorem jw_2_152 : Cond.code ⟨"java/lang/String", "<init>", "([BB)V"⟩ prog_16_method_151_code 3 none ∈ ga_gw := am_at_c (k := 2) (i := 152) rfl rfl
theorem jw_2_153 : Cond.methodLink "java/lang/String" 1 ⟨"java/lang/Object", "<init>", "()V"⟩ ∈ ga_gw := am_at_c (k := 2) (i := 153) rfl rfl
theorem jw_2_154 : Cond.fieldLink "java/lang/String" 9 "java/lang/String" "value" "[B" ∈ ga_gw := am_at_c (k := 2) (i := 154) rfl rfl
theorem jw_2_155 : Cond.fieldLink "java/lang/String" 15 "java/lang/String" "coder" "B" ∈ ga_gw := am_at_c (k := 2) (i := 155) rfl rfl
theorem jw_2_156 : Cond.laysFinal "java/lang/String" "java/lang/String" "value" "[B" ∈ ga_gw := am_at_c (k := 2) (i := 156) rfl rfl
theorem jw_2_157 : Cond.soleField "java/lang/String" "value" ∈ ga_gw := am_at_c (k := 2) (i := 157) rfl rfl
theorem jw_2_158 : Cond.laysFinal "java/lang/String" "java/lang/String" "coder" "B" ∈ ga_gw := am_at_c (k := 2) (i := 158) rfl rfl
theorem jw_2_159 : Cond.soleField "java/lang/String" "coder" ∈ ga_gw := am_at_c (k := 2) (i := 159) rfl rfl
theorem jw_2_160 : Cond.lays "java/lang/String" "java/lang/String" "hash" "I" ∈ ga_gw := am_at_c (k := 2) (i := 160) rfl rfl
theorem jw_2_161 : Cond.soleField "java/lang/String" "hash" ∈ ga_gw := am_at_c (k := 2) (i := 161) rfl rfl
theorem jw_2_162 : Cond.lays "java/lang/String" "java/lang/String" "hashIsZero" "Z" ∈ ga_gw := am_at_c (k := 2) (i := 162) rfl rfl
theorem jw_2_163 : Cond.soleField "java/lang/String" "hashIsZero" ∈ ga_gw := am_at_c (k := 2) (i := 163) rfl rfl
theorem jw_2_164 : Cond.superclass "java/lang/String" "java/lang/Object" ∈ ga_gw := am_at_c (k := 2) (i := 164) rfl rfl
theorem jw_2_180 : Cond.static ⟨"java/lang/String", "checkBoundsOffCount", "(III)I"⟩ ∈ ga_gw := am_at_c (k := 2) (i := 180) rfl rfl
theorem jw_2_181 : Cond.code ⟨"java/lang/String", "checkBoundsOffCount", "(III)I"⟩ prog_16_method_157_code 3 (some .int) ∈ ga_gw := am_at_c (k := 2) (i := 181) rfl rfl
theorem jw_2_182 : Cond.methodLink "java/lang/String" 1065 ⟨"jdk/internal/util/Preconditions", "checkFromIndexSize", "(IIILjava/util/function/BiFunction;)I"⟩ ∈ ga_gw := am_at_c (k := 2) (i := 182) rfl rfl
theorem jw_2_183 : Cond.static ⟨"jdk/internal/util/Preconditions", "checkFromIndexSize", "(IIILjava/util/function/BiFunction;)I"⟩ ∈ ga_gw := am_at_c (k := 2) (i := 183) rfl rfl
theorem jw_2_184 : Cond.code ⟨"jdk/internal/util/Preconditions", "checkFromIndexSize", "(IIILjava/util/function/BiFunction;)I"⟩ prog_21_method_13_code 4 (some .int) ∈ ga_gw := am_at_c (k := 2) (i := 184) rfl rfl
theorem jw_2_200 : Cond.methodLink "RuleSentences$World" 275 ⟨"java/lang/String", "length", "()I"⟩ ∈ ga_gw := am_at_c (k := 2) (i := 200) rfl rfl
theorem jw_2_201 : Cond.methodLink "RuleSentences$World" 278 ⟨"java/lang/String", "charAt", "(I)C"⟩ ∈ ga_gw := am_at_c (k := 2) (i := 201) rfl rfl
theorem jw_3_205 : Cond.methodLink "RuleSentences$Tokens" 3 ⟨"java/lang/Object", "<init>", "()V"⟩ ∈ ga_gw := am_at_c (k := 3) (i := 205) rfl rfl
theorem jw_4_26 : Cond.methodLink "RuleSentences$Reader" 5 ⟨"java/lang/Object", "<init>", "()V"⟩ ∈ ga_gw := am_at_c (k := 4) (i := 26) rfl rfl
theorem jw_5_16 : Cond.methodLink "RuleSentences$Turns" 3 ⟨"java/lang/Object", "<init>", "()V"⟩ ∈ ga_gw := am_at_c (k := 5) (i := 16) rfl rfl
theorem jw_5_123 : Cond.methodLink "RuleSentences$Tokens" 35 ⟨"java/lang/System", "arraycopy", "(Ljava/lang/Object;ILjava/lang/Object;II)V"⟩ ∈ ga_gw := am_at_c (k := 5) (i := 123) rfl rfl
theorem jw_5_156 : Cond.methodLink "RuleSentences$Tokens" 114 ⟨"java/lang/String", "length", "()I"⟩ ∈ ga_gw := am_at_c (k := 5) (i := 156) rfl rfl
theorem jw_5_157 : Cond.methodLink "RuleSentences$Tokens" 120 ⟨"java/lang/String", "indexOf", "(II)I"⟩ ∈ ga_gw := am_at_c (k := 5) (i := 157) rfl rfl
theorem jw_5_158 : Cond.methodLink "RuleSentences$Tokens" 124 ⟨"java/lang/String", "charAt", "(I)C"⟩ ∈ ga_gw := am_at_c (k := 5) (i := 158) rfl rfl
theorem jw_5_164 : Cond.selects "RuleSentences$Token" ⟨"RuleSentences$Token", "ordinal", "()I"⟩ ⟨"java/lang/Enum", "ordinal", "()I"⟩ ∈ ga_gw := am_at_c (k := 5) (i := 164) rfl rfl
theorem jw_5_165 : Cond.instanceMethod ⟨"java/lang/Enum", "ordinal", "()I"⟩ ∈ ga_gw := am_at_c (k := 5) (i := 165) rfl rfl
theorem jw_5_166 : Cond.code ⟨"java/lang/Enum", "ordinal", "()I"⟩ prog_14_method_2_code 1 (some .int) ∈ ga_gw := am_at_c (k := 5) (i := 166) rfl rfl
theorem jw_6_222 : Cond.methodLink "RuleSentences$Reader" 823 ⟨"java/lang/String", "charAt", "(I)C"⟩ ∈ ga_gw := am_at_c (k := 6) (i := 222) rfl rfl
theorem jw_7_74 : Cond.methodLink "RuleSentences$Reader" 515 ⟨"java/lang/Math", "max", "(II)I"⟩ ∈ ga_gw := am_at_c (k := 7) (i := 74) rfl rfl
theorem jw_9_37 : Cond.methodLink "RuleSentencesModel" 3 ⟨"java/lang/Object", "<init>", "()V"⟩ ∈ ga_gw := am_at_c (k := 9) (i := 37) rfl rfl
theorem jw_9_42 : Cond.methodLink "RuleSentencesModel" 292 ⟨"java/lang/String", "length", "()I"⟩ ∈ ga_gw := am_at_c (k := 9) (i := 42) rfl rfl
theorem jw_9_43 : Cond.methodLink "RuleSentencesModel" 297 ⟨"java/lang/String", "charAt", "(I)C"⟩ ∈ ga_gw := am_at_c (k := 9) (i := 43) rfl rfl
theorem jw_11_147 : Cond.methodLink "RuleSentencesModel" 727 ⟨"java/lang/System", "arraycopy", "(Ljava/lang/Object;ILjava/lang/Object;II)V"⟩ ∈ ga_gw := am_at_c (k := 11) (i := 147) rfl rfl
theorem jw_12_96 : Cond.methodLink "RuleSentencesModel" 807 ⟨"java/lang/Math", "min", "(II)I"⟩ ∈ ga_gw := am_at_c (k := 12) (i := 96) rfl rfl
theorem jw_13_34 : Cond.methodLink "RuleSentencesModel" 795 ⟨"java/lang/Math", "max", "(II)I"⟩ ∈ ga_gw := am_at_c (k := 13) (i := 34) rfl rfl
theorem jw_13_95 : Cond.methodLink "RuleSentencesModel" 1033 ⟨"java/lang/Math", "abs", "(I)I"⟩ ∈ ga_gw := am_at_c (k := 13) (i := 95) rfl rfl
theorem jw_13_96 : Cond.static ⟨"java/lang/Math", "abs", "(I)I"⟩ ∈ ga_gw := am_at_c (k := 13) (i := 96) rfl rfl
theorem jw_13_97 : Cond.code ⟨"java/lang/Math", "abs", "(I)I"⟩ prog_15_method_59_code 1 (some .int) ∈ ga_gw := am_at_c (k := 13) (i := 97) rfl rfl
theorem jw_14_106 : Cond.fieldLink "java/lang/Enum" 7 "java/lang/Enum" "ordinal" "I" ∈ ga_gw := am_at_c (k := 14) (i := 106) rfl rfl
