/-! EventHunter$Pattern -/
set_option maxRecDepth 100000
def RX3 : String := "EventHunter$Pattern"
def TX3 : u_T := fun k => match k with
  | 0 => ("EventHunter$Pattern", "within", "I", false)
  | 1 => ("EventHunter$Pattern", "way", "I", false)
  | 2 => ("EventHunter$Pattern", "key", "I", false)
  | 3 => ("EventHunter$Pattern", "steps", "I", false)
  | 4 => ("EventHunter$Pattern", "sort", "[I", true)
  | 5 => ("EventHunter$Pattern", "of", "[I", true)
  | 6 => ("EventHunter$Pattern", "test", "[I", true)
  | 7 => ("EventHunter$Pattern", "by", "[I", true)
  | 8 => ("EventHunter$Pattern", "with", "[I", true)
  | 9 => ("EventHunter$Pattern", "isBegun", "Z", false)
  | 10 => ("EventHunter$Pattern", "isSpent", "Z", false)
  | 11 => ("EventHunter$Pattern", "since", "I", false)
  | 12 => ("EventHunter$Pattern", "told", "I", false)
  | 13 => ("EventHunter$Pattern", "run", "[I", true)
  | 14 => ("EventHunter$Pattern", "hurt", "[Z", true)
  | 15 => ("EventHunter$Pattern", "runs", "I", false)
  | _ => ("EventHunter$Pattern", "this$0", "LEventHunter;", true)
def tyX3 : Nat → FieldType := fun k => match k with
  | 0 => .int
  | 1 => .int
  | 2 => .int
  | 3 => .int
  | 4 => .array .int
  | 5 => .array .int
  | 6 => .array .int
  | 7 => .array .int
  | 8 => .array .int
  | 9 => .boolean
  | 10 => .boolean
  | 11 => .int
  | 12 => .int
  | 13 => .array .int
  | 14 => .array .boolean
  | 15 => .int
  | _ => .object "EventHunter"
abbrev wsX30 : List Cond := u_ws RX3 TX3 17
set_option maxRecDepth 100000 in
theorem nmX3 : ∀ a, a < 17 → ∀ b, b < 17 → a ≠ b → (TX3 a).2.1 ≠ (TX3 b).2.1 := by decide +kernel
set_option maxRecDepth 100000 in
theorem tyX3_ok : ∀ k, k < 17 → parseFieldDescriptor (TX3 k).2.2.1 = some (tyX3 k) := by decide +kernel
abbrev cX3_init : ByteArray := prog_2_method_1_code
def yX3_init : MethodName := ⟨RX3, "<init>", "(LEventHunter;)V"⟩
theorem dX3_init_0 : decode cX3_init 0 = .ok (.aload_n 0, 1) := by decide +kernel
theorem dX3_init_1 : decode cX3_init 1 = .ok (.aload_n 1, 1) := by decide +kernel
theorem dX3_init_2 : decode cX3_init 2 = .ok (.putfield 3, 3) := by decide +kernel
theorem dX3_init_5 : decode cX3_init 5 = .ok (.aload_n 0, 1) := by decide +kernel
theorem dX3_init_6 : decode cX3_init 6 = .ok (.invokespecial 9, 3) := by decide +kernel
theorem dX3_init_9 : decode cX3_init 9 = .ok (.aload_n 0, 1) := by decide +kernel
theorem dX3_init_10 : decode cX3_init 10 = .ok (.bipush 6, 2) := by decide +kernel
theorem dX3_init_12 : decode cX3_init 12 = .ok (.newarray .int, 2) := by decide +kernel
theorem dX3_init_14 : decode cX3_init 14 = .ok (.putfield 15, 3) := by decide +kernel
theorem dX3_init_17 : decode cX3_init 17 = .ok (.aload_n 0, 1) := by decide +kernel
theorem dX3_init_18 : decode cX3_init 18 = .ok (.bipush 6, 2) := by decide +kernel
theorem dX3_init_20 : decode cX3_init 20 = .ok (.newarray .int, 2) := by decide +kernel
theorem dX3_init_22 : decode cX3_init 22 = .ok (.putfield 19, 3) := by decide +kernel
theorem dX3_init_25 : decode cX3_init 25 = .ok (.aload_n 0, 1) := by decide +kernel
theorem dX3_init_26 : decode cX3_init 26 = .ok (.bipush 6, 2) := by decide +kernel
theorem dX3_init_28 : decode cX3_init 28 = .ok (.newarray .int, 2) := by decide +kernel
theorem dX3_init_30 : decode cX3_init 30 = .ok (.putfield 22, 3) := by decide +kernel
theorem dX3_init_33 : decode cX3_init 33 = .ok (.aload_n 0, 1) := by decide +kernel
theorem dX3_init_34 : decode cX3_init 34 = .ok (.bipush 6, 2) := by decide +kernel
theorem dX3_init_36 : decode cX3_init 36 = .ok (.newarray .int, 2) := by decide +kernel
theorem dX3_init_38 : decode cX3_init 38 = .ok (.putfield 25, 3) := by decide +kernel
theorem dX3_init_41 : decode cX3_init 41 = .ok (.aload_n 0, 1) := by decide +kernel
theorem dX3_init_42 : decode cX3_init 42 = .ok (.bipush 6, 2) := by decide +kernel
theorem dX3_init_44 : decode cX3_init 44 = .ok (.newarray .int, 2) := by decide +kernel
theorem dX3_init_46 : decode cX3_init 46 = .ok (.putfield 28, 3) := by decide +kernel
theorem dX3_init_49 : decode cX3_init 49 = .ok (.aload_n 0, 1) := by decide +kernel
theorem dX3_init_50 : decode cX3_init 50 = .ok (.sipush 200, 3) := by decide +kernel
theorem dX3_init_53 : decode cX3_init 53 = .ok (.newarray .int, 2) := by decide +kernel
theorem dX3_init_55 : decode cX3_init 55 = .ok (.putfield 31, 3) := by decide +kernel
theorem dX3_init_58 : decode cX3_init 58 = .ok (.aload_n 0, 1) := by decide +kernel
theorem dX3_init_59 : decode cX3_init 59 = .ok (.sipush 200, 3) := by decide +kernel
theorem dX3_init_62 : decode cX3_init 62 = .ok (.newarray .boolean, 2) := by decide +kernel
theorem dX3_init_64 : decode cX3_init 64 = .ok (.putfield 34, 3) := by decide +kernel
theorem dX3_init_67 : decode cX3_init 67 = .ok (.return_, 1) := by decide +kernel
abbrev cX3_come : ByteArray := prog_2_method_14_code
def yX3_come : MethodName := ⟨RX3, "come", "(I)V"⟩
theorem dX3_come_0 : decode cX3_come 0 = .ok (.aload_n 0, 1) := by decide +kernel
theorem dX3_come_1 : decode cX3_come 1 = .ok (.iload_n 1, 1) := by decide +kernel
theorem dX3_come_2 : decode cX3_come 2 = .ok (.invokevirtual 149, 3) := by decide +kernel
theorem dX3_come_5 : decode cX3_come 5 = .ok (.aload_n 0, 1) := by decide +kernel
theorem dX3_come_6 : decode cX3_come 6 = .ok (.getfield 108, 3) := by decide +kernel
theorem dX3_come_9 : decode cX3_come 9 = .ok (.istore_n 2, 1) := by decide +kernel
theorem dX3_come_10 : decode cX3_come 10 = .ok (.iconst 0, 1) := by decide +kernel
theorem dX3_come_11 : decode cX3_come 11 = .ok (.istore_n 3, 1) := by decide +kernel
theorem dX3_come_12 : decode cX3_come 12 = .ok (.iconst 0, 1) := by decide +kernel
theorem dX3_come_13 : decode cX3_come 13 = .ok (.istore 4, 2) := by decide +kernel
theorem dX3_come_15 : decode cX3_come 15 = .ok (.iload 4, 2) := by decide +kernel
theorem dX3_come_17 : decode cX3_come 17 = .ok (.iload_n 2, 1) := by decide +kernel
theorem dX3_come_18 : decode cX3_come 18 = .ok (.if_icmp .ge 194, 3) := by decide +kernel
theorem dX3_come_21 : decode cX3_come 21 = .ok (.aload_n 0, 1) := by decide +kernel
theorem dX3_come_22 : decode cX3_come 22 = .ok (.getfield 124, 3) := by decide +kernel
theorem dX3_come_25 : decode cX3_come 25 = .ok (.ifCond .ne 187, 3) := by decide +kernel
theorem dX3_come_28 : decode cX3_come 28 = .ok (.aload_n 0, 1) := by decide +kernel
theorem dX3_come_29 : decode cX3_come 29 = .ok (.aload_n 0, 1) := by decide +kernel
theorem dX3_come_30 : decode cX3_come 30 = .ok (.getfield 3, 3) := by decide +kernel
theorem dX3_come_33 : decode cX3_come 33 = .ok (.getfield 48, 3) := by decide +kernel
theorem dX3_come_36 : decode cX3_come 36 = .ok (.aload_n 0, 1) := by decide +kernel
theorem dX3_come_37 : decode cX3_come 37 = .ok (.getfield 31, 3) := by decide +kernel
theorem dX3_come_40 : decode cX3_come 40 = .ok (.iload 4, 2) := by decide +kernel
theorem dX3_come_42 : decode cX3_come 42 = .ok (.iaload, 1) := by decide +kernel
theorem dX3_come_43 : decode cX3_come 43 = .ok (.invokevirtual 114, 3) := by decide +kernel
theorem dX3_come_46 : decode cX3_come 46 = .ok (.iload_n 1, 1) := by decide +kernel
theorem dX3_come_47 : decode cX3_come 47 = .ok (.invokevirtual 152, 3) := by decide +kernel
theorem dX3_come_50 : decode cX3_come 50 = .ok (.istore 5, 2) := by decide +kernel
theorem dX3_come_52 : decode cX3_come 52 = .ok (.iconst 0, 1) := by decide +kernel
theorem dX3_come_53 : decode cX3_come 53 = .ok (.istore 6, 2) := by decide +kernel
theorem dX3_come_55 : decode cX3_come 55 = .ok (.iload 5, 2) := by decide +kernel
theorem dX3_come_57 : decode cX3_come 57 = .ok (.ifCond .eq 20, 3) := by decide +kernel
theorem dX3_come_60 : decode cX3_come 60 = .ok (.aload_n 0, 1) := by decide +kernel
theorem dX3_come_61 : decode cX3_come 61 = .ok (.getfield 155, 3) := by decide +kernel
theorem dX3_come_64 : decode cX3_come 64 = .ok (.ifCond .ne 13, 3) := by decide +kernel
theorem dX3_come_67 : decode cX3_come 67 = .ok (.aload_n 0, 1) := by decide +kernel
theorem dX3_come_68 : decode cX3_come 68 = .ok (.iload 4, 2) := by decide +kernel
theorem dX3_come_70 : decode cX3_come 70 = .ok (.iload_n 1, 1) := by decide +kernel
theorem dX3_come_71 : decode cX3_come 71 = .ok (.invokevirtual 158, 3) := by decide +kernel
theorem dX3_come_74 : decode cX3_come 74 = .ok (.goto 17, 3) := by decide +kernel
theorem dX3_come_77 : decode cX3_come 77 = .ok (.iload 5, 2) := by decide +kernel
theorem dX3_come_79 : decode cX3_come 79 = .ok (.ifCond .eq 12, 3) := by decide +kernel
theorem dX3_come_82 : decode cX3_come 82 = .ok (.aload_n 0, 1) := by decide +kernel
theorem dX3_come_83 : decode cX3_come 83 = .ok (.iload 4, 2) := by decide +kernel
theorem dX3_come_85 : decode cX3_come 85 = .ok (.iload_n 1, 1) := by decide +kernel
theorem dX3_come_86 : decode cX3_come 86 = .ok (.invokevirtual 162, 3) := by decide +kernel
theorem dX3_come_89 : decode cX3_come 89 = .ok (.istore 6, 2) := by decide +kernel
theorem dX3_come_91 : decode cX3_come 91 = .ok (.aload_n 0, 1) := by decide +kernel
theorem dX3_come_92 : decode cX3_come 92 = .ok (.getfield 124, 3) := by decide +kernel
theorem dX3_come_95 : decode cX3_come 95 = .ok (.ifCond .eq 4, 3) := by decide +kernel
theorem dX3_come_98 : decode cX3_come 98 = .ok (.return_, 1) := by decide +kernel
theorem dX3_come_99 : decode cX3_come 99 = .ok (.iload 5, 2) := by decide +kernel
theorem dX3_come_101 : decode cX3_come 101 = .ok (.ifCond .eq 26, 3) := by decide +kernel
theorem dX3_come_104 : decode cX3_come 104 = .ok (.iload 6, 2) := by decide +kernel
theorem dX3_come_106 : decode cX3_come 106 = .ok (.ifCond .ne 21, 3) := by decide +kernel
theorem dX3_come_109 : decode cX3_come 109 = .ok (.aload_n 0, 1) := by decide +kernel
theorem dX3_come_110 : decode cX3_come 110 = .ok (.iload 4, 2) := by decide +kernel
theorem dX3_come_112 : decode cX3_come 112 = .ok (.iload_n 1, 1) := by decide +kernel
theorem dX3_come_113 : decode cX3_come 113 = .ok (.invokevirtual 165, 3) := by decide +kernel
theorem dX3_come_116 : decode cX3_come 116 = .ok (.ifCond .eq 11, 3) := by decide +kernel
theorem dX3_come_119 : decode cX3_come 119 = .ok (.aload_n 0, 1) := by decide +kernel
theorem dX3_come_120 : decode cX3_come 120 = .ok (.getfield 34, 3) := by decide +kernel
theorem dX3_come_123 : decode cX3_come 123 = .ok (.iload 4, 2) := by decide +kernel
theorem dX3_come_125 : decode cX3_come 125 = .ok (.iconst 1, 1) := by decide +kernel
theorem dX3_come_126 : decode cX3_come 126 = .ok (.bastore, 1) := by decide +kernel
theorem dX3_come_127 : decode cX3_come 127 = .ok (.iload 6, 2) := by decide +kernel
theorem dX3_come_129 : decode cX3_come 129 = .ok (.ifCond .eq 48, 3) := by decide +kernel
theorem dX3_come_132 : decode cX3_come 132 = .ok (.aload_n 0, 1) := by decide +kernel
theorem dX3_come_133 : decode cX3_come 133 = .ok (.aload_n 0, 1) := by decide +kernel
theorem dX3_come_134 : decode cX3_come 134 = .ok (.getfield 31, 3) := by decide +kernel
theorem dX3_come_137 : decode cX3_come 137 = .ok (.iload 4, 2) := by decide +kernel
theorem dX3_come_139 : decode cX3_come 139 = .ok (.iaload, 1) := by decide +kernel
theorem dX3_come_140 : decode cX3_come 140 = .ok (.invokevirtual 131, 3) := by decide +kernel
theorem dX3_come_143 : decode cX3_come 143 = .ok (.ifCond .eq 34, 3) := by decide +kernel
theorem dX3_come_146 : decode cX3_come 146 = .ok (.aload_n 0, 1) := by decide +kernel
theorem dX3_come_147 : decode cX3_come 147 = .ok (.aload_n 0, 1) := by decide +kernel
theorem dX3_come_148 : decode cX3_come 148 = .ok (.getfield 31, 3) := by decide +kernel
theorem dX3_come_151 : decode cX3_come 151 = .ok (.iload 4, 2) := by decide +kernel
theorem dX3_come_153 : decode cX3_come 153 = .ok (.iaload, 1) := by decide +kernel
theorem dX3_come_154 : decode cX3_come 154 = .ok (.invokevirtual 135, 3) := by decide +kernel
theorem dX3_come_157 : decode cX3_come 157 = .ok (.aload_n 0, 1) := by decide +kernel
theorem dX3_come_158 : decode cX3_come 158 = .ok (.getfield 3, 3) := by decide +kernel
theorem dX3_come_161 : decode cX3_come 161 = .ok (.getfield 48, 3) := by decide +kernel
theorem dX3_come_164 : decode cX3_come 164 = .ok (.aload_n 0, 1) := by decide +kernel
theorem dX3_come_165 : decode cX3_come 165 = .ok (.getfield 31, 3) := by decide +kernel
theorem dX3_come_168 : decode cX3_come 168 = .ok (.iload 4, 2) := by decide +kernel
theorem dX3_come_170 : decode cX3_come 170 = .ok (.iaload, 1) := by decide +kernel
theorem dX3_come_171 : decode cX3_come 171 = .ok (.invokevirtual 120, 3) := by decide +kernel
theorem dX3_come_174 : decode cX3_come 174 = .ok (.goto 32, 3) := by decide +kernel
theorem dX3_come_177 : decode cX3_come 177 = .ok (.aload_n 0, 1) := by decide +kernel
theorem dX3_come_178 : decode cX3_come 178 = .ok (.getfield 31, 3) := by decide +kernel
theorem dX3_come_181 : decode cX3_come 181 = .ok (.iload_n 3, 1) := by decide +kernel
theorem dX3_come_182 : decode cX3_come 182 = .ok (.aload_n 0, 1) := by decide +kernel
theorem dX3_come_183 : decode cX3_come 183 = .ok (.getfield 31, 3) := by decide +kernel
theorem dX3_come_186 : decode cX3_come 186 = .ok (.iload 4, 2) := by decide +kernel
theorem dX3_come_188 : decode cX3_come 188 = .ok (.iaload, 1) := by decide +kernel
theorem dX3_come_189 : decode cX3_come 189 = .ok (.iastore, 1) := by decide +kernel
theorem dX3_come_190 : decode cX3_come 190 = .ok (.aload_n 0, 1) := by decide +kernel
theorem dX3_come_191 : decode cX3_come 191 = .ok (.getfield 34, 3) := by decide +kernel
theorem dX3_come_194 : decode cX3_come 194 = .ok (.iload_n 3, 1) := by decide +kernel
theorem dX3_come_195 : decode cX3_come 195 = .ok (.iinc 3 1, 3) := by decide +kernel
theorem dX3_come_198 : decode cX3_come 198 = .ok (.aload_n 0, 1) := by decide +kernel
theorem dX3_come_199 : decode cX3_come 199 = .ok (.getfield 34, 3) := by decide +kernel
theorem dX3_come_202 : decode cX3_come 202 = .ok (.iload 4, 2) := by decide +kernel
theorem dX3_come_204 : decode cX3_come 204 = .ok (.baload, 1) := by decide +kernel
theorem dX3_come_205 : decode cX3_come 205 = .ok (.bastore, 1) := by decide +kernel
theorem dX3_come_206 : decode cX3_come 206 = .ok (.iinc 4 1, 3) := by decide +kernel
theorem dX3_come_209 : decode cX3_come 209 = .ok (.goto (-194), 3) := by decide +kernel
theorem dX3_come_212 : decode cX3_come 212 = .ok (.aload_n 0, 1) := by decide +kernel
theorem dX3_come_213 : decode cX3_come 213 = .ok (.getfield 155, 3) := by decide +kernel
theorem dX3_come_216 : decode cX3_come 216 = .ok (.ifCond .eq 8, 3) := by decide +kernel
theorem dX3_come_219 : decode cX3_come 219 = .ok (.aload_n 0, 1) := by decide +kernel
theorem dX3_come_220 : decode cX3_come 220 = .ok (.iload_n 3, 1) := by decide +kernel
theorem dX3_come_221 : decode cX3_come 221 = .ok (.putfield 108, 3) := by decide +kernel
theorem dX3_come_224 : decode cX3_come 224 = .ok (.aload_n 0, 1) := by decide +kernel
theorem dX3_come_225 : decode cX3_come 225 = .ok (.iconst 0, 1) := by decide +kernel
theorem dX3_come_226 : decode cX3_come 226 = .ok (.iconst (-1), 1) := by decide +kernel
theorem dX3_come_227 : decode cX3_come 227 = .ok (.iload_n 1, 1) := by decide +kernel
theorem dX3_come_228 : decode cX3_come 228 = .ok (.invokevirtual 68, 3) := by decide +kernel
theorem dX3_come_231 : decode cX3_come 231 = .ok (.ifCond .ne 4, 3) := by decide +kernel
theorem dX3_come_234 : decode cX3_come 234 = .ok (.return_, 1) := by decide +kernel
theorem dX3_come_235 : decode cX3_come 235 = .ok (.aload_n 0, 1) := by decide +kernel
theorem dX3_come_236 : decode cX3_come 236 = .ok (.getfield 3, 3) := by decide +kernel
theorem dX3_come_239 : decode cX3_come 239 = .ok (.getfield 48, 3) := by decide +kernel
theorem dX3_come_242 : decode cX3_come 242 = .ok (.iload_n 1, 1) := by decide +kernel
theorem dX3_come_243 : decode cX3_come 243 = .ok (.iconst 0, 1) := by decide +kernel
theorem dX3_come_244 : decode cX3_come 244 = .ok (.iconst (-1), 1) := by decide +kernel
theorem dX3_come_245 : decode cX3_come 245 = .ok (.invokevirtual 142, 3) := by decide +kernel
theorem dX3_come_248 : decode cX3_come 248 = .ok (.istore 4, 2) := by decide +kernel
theorem dX3_come_250 : decode cX3_come 250 = .ok (.aload_n 0, 1) := by decide +kernel
theorem dX3_come_251 : decode cX3_come 251 = .ok (.getfield 155, 3) := by decide +kernel
theorem dX3_come_254 : decode cX3_come 254 = .ok (.ifCond .eq 58, 3) := by decide +kernel
theorem dX3_come_257 : decode cX3_come 257 = .ok (.aload_n 0, 1) := by decide +kernel
theorem dX3_come_258 : decode cX3_come 258 = .ok (.iload 4, 2) := by decide +kernel
theorem dX3_come_260 : decode cX3_come 260 = .ok (.invokevirtual 131, 3) := by decide +kernel
theorem dX3_come_263 : decode cX3_come 263 = .ok (.ifCond .eq 49, 3) := by decide +kernel
theorem dX3_come_266 : decode cX3_come 266 = .ok (.aload_n 0, 1) := by decide +kernel
theorem dX3_come_267 : decode cX3_come 267 = .ok (.getfield 108, 3) := by decide +kernel
theorem dX3_come_270 : decode cX3_come 270 = .ok (.sipush 200, 3) := by decide +kernel
theorem dX3_come_273 : decode cX3_come 273 = .ok (.if_icmp .ne 20, 3) := by decide +kernel
theorem dX3_come_276 : decode cX3_come 276 = .ok (.aload_n 0, 1) := by decide +kernel
theorem dX3_come_277 : decode cX3_come 277 = .ok (.getfield 3, 3) := by decide +kernel
theorem dX3_come_280 : decode cX3_come 280 = .ok (.getfield 48, 3) := by decide +kernel
theorem dX3_come_283 : decode cX3_come 283 = .ok (.iload 4, 2) := by decide +kernel
theorem dX3_come_285 : decode cX3_come 285 = .ok (.invokevirtual 120, 3) := by decide +kernel
theorem dX3_come_288 : decode cX3_come 288 = .ok (.aload_n 0, 1) := by decide +kernel
theorem dX3_come_289 : decode cX3_come 289 = .ok (.invokevirtual 128, 3) := by decide +kernel
theorem dX3_come_292 : decode cX3_come 292 = .ok (.return_, 1) := by decide +kernel
theorem dX3_come_293 : decode cX3_come 293 = .ok (.aload_n 0, 1) := by decide +kernel
theorem dX3_come_294 : decode cX3_come 294 = .ok (.iload 4, 2) := by decide +kernel
theorem dX3_come_296 : decode cX3_come 296 = .ok (.invokevirtual 135, 3) := by decide +kernel
theorem dX3_come_299 : decode cX3_come 299 = .ok (.aload_n 0, 1) := by decide +kernel
theorem dX3_come_300 : decode cX3_come 300 = .ok (.getfield 3, 3) := by decide +kernel
theorem dX3_come_303 : decode cX3_come 303 = .ok (.getfield 48, 3) := by decide +kernel
theorem dX3_come_306 : decode cX3_come 306 = .ok (.iload 4, 2) := by decide +kernel
theorem dX3_come_308 : decode cX3_come 308 = .ok (.invokevirtual 120, 3) := by decide +kernel
theorem dX3_come_311 : decode cX3_come 311 = .ok (.return_, 1) := by decide +kernel
theorem dX3_come_312 : decode cX3_come 312 = .ok (.aload_n 0, 1) := by decide +kernel
theorem dX3_come_313 : decode cX3_come 313 = .ok (.iload 4, 2) := by decide +kernel
theorem dX3_come_315 : decode cX3_come 315 = .ok (.invokevirtual 146, 3) := by decide +kernel
theorem dX3_come_318 : decode cX3_come 318 = .ok (.return_, 1) := by decide +kernel
abbrev cX3_age : ByteArray := prog_2_method_8_code
def yX3_age : MethodName := ⟨RX3, "age", "(I)V"⟩
theorem dX3_age_0 : decode cX3_age 0 = .ok (.iconst 0, 1) := by decide +kernel
theorem dX3_age_1 : decode cX3_age 1 = .ok (.istore_n 2, 1) := by decide +kernel
theorem dX3_age_2 : decode cX3_age 2 = .ok (.iconst 0, 1) := by decide +kernel
theorem dX3_age_3 : decode cX3_age 3 = .ok (.istore_n 3, 1) := by decide +kernel
theorem dX3_age_4 : decode cX3_age 4 = .ok (.iload_n 3, 1) := by decide +kernel
theorem dX3_age_5 : decode cX3_age 5 = .ok (.aload_n 0, 1) := by decide +kernel
theorem dX3_age_6 : decode cX3_age 6 = .ok (.getfield 108, 3) := by decide +kernel
theorem dX3_age_9 : decode cX3_age 9 = .ok (.if_icmp .ge 96, 3) := by decide +kernel
theorem dX3_age_12 : decode cX3_age 12 = .ok (.aload_n 0, 1) := by decide +kernel
theorem dX3_age_13 : decode cX3_age 13 = .ok (.getfield 3, 3) := by decide +kernel
theorem dX3_age_16 : decode cX3_age 16 = .ok (.getfield 111, 3) := by decide +kernel
theorem dX3_age_19 : decode cX3_age 19 = .ok (.iload_n 1, 1) := by decide +kernel
theorem dX3_age_20 : decode cX3_age 20 = .ok (.iaload, 1) := by decide +kernel
theorem dX3_age_21 : decode cX3_age 21 = .ok (.aload_n 0, 1) := by decide +kernel
theorem dX3_age_22 : decode cX3_age 22 = .ok (.getfield 3, 3) := by decide +kernel
theorem dX3_age_25 : decode cX3_age 25 = .ok (.getfield 111, 3) := by decide +kernel
theorem dX3_age_28 : decode cX3_age 28 = .ok (.aload_n 0, 1) := by decide +kernel
theorem dX3_age_29 : decode cX3_age 29 = .ok (.getfield 3, 3) := by decide +kernel
theorem dX3_age_32 : decode cX3_age 32 = .ok (.getfield 48, 3) := by decide +kernel
theorem dX3_age_35 : decode cX3_age 35 = .ok (.aload_n 0, 1) := by decide +kernel
theorem dX3_age_36 : decode cX3_age 36 = .ok (.getfield 31, 3) := by decide +kernel
theorem dX3_age_39 : decode cX3_age 39 = .ok (.iload_n 3, 1) := by decide +kernel
theorem dX3_age_40 : decode cX3_age 40 = .ok (.iaload, 1) := by decide +kernel
theorem dX3_age_41 : decode cX3_age 41 = .ok (.invokevirtual 114, 3) := by decide +kernel
theorem dX3_age_44 : decode cX3_age 44 = .ok (.iaload, 1) := by decide +kernel
theorem dX3_age_45 : decode cX3_age 45 = .ok (.isub, 1) := by decide +kernel
theorem dX3_age_46 : decode cX3_age 46 = .ok (.aload_n 0, 1) := by decide +kernel
theorem dX3_age_47 : decode cX3_age 47 = .ok (.getfield 117, 3) := by decide +kernel
theorem dX3_age_50 : decode cX3_age 50 = .ok (.if_icmp .le 22, 3) := by decide +kernel
theorem dX3_age_53 : decode cX3_age 53 = .ok (.aload_n 0, 1) := by decide +kernel
theorem dX3_age_54 : decode cX3_age 54 = .ok (.getfield 3, 3) := by decide +kernel
theorem dX3_age_57 : decode cX3_age 57 = .ok (.getfield 48, 3) := by decide +kernel
theorem dX3_age_60 : decode cX3_age 60 = .ok (.aload_n 0, 1) := by decide +kernel
theorem dX3_age_61 : decode cX3_age 61 = .ok (.getfield 31, 3) := by decide +kernel
theorem dX3_age_64 : decode cX3_age 64 = .ok (.iload_n 3, 1) := by decide +kernel
theorem dX3_age_65 : decode cX3_age 65 = .ok (.iaload, 1) := by decide +kernel
theorem dX3_age_66 : decode cX3_age 66 = .ok (.invokevirtual 120, 3) := by decide +kernel
theorem dX3_age_69 : decode cX3_age 69 = .ok (.goto 30, 3) := by decide +kernel
theorem dX3_age_72 : decode cX3_age 72 = .ok (.aload_n 0, 1) := by decide +kernel
theorem dX3_age_73 : decode cX3_age 73 = .ok (.getfield 31, 3) := by decide +kernel
theorem dX3_age_76 : decode cX3_age 76 = .ok (.iload_n 2, 1) := by decide +kernel
theorem dX3_age_77 : decode cX3_age 77 = .ok (.aload_n 0, 1) := by decide +kernel
theorem dX3_age_78 : decode cX3_age 78 = .ok (.getfield 31, 3) := by decide +kernel
theorem dX3_age_81 : decode cX3_age 81 = .ok (.iload_n 3, 1) := by decide +kernel
theorem dX3_age_82 : decode cX3_age 82 = .ok (.iaload, 1) := by decide +kernel
theorem dX3_age_83 : decode cX3_age 83 = .ok (.iastore, 1) := by decide +kernel
theorem dX3_age_84 : decode cX3_age 84 = .ok (.aload_n 0, 1) := by decide +kernel
theorem dX3_age_85 : decode cX3_age 85 = .ok (.getfield 34, 3) := by decide +kernel
theorem dX3_age_88 : decode cX3_age 88 = .ok (.iload_n 2, 1) := by decide +kernel
theorem dX3_age_89 : decode cX3_age 89 = .ok (.iinc 2 1, 3) := by decide +kernel
theorem dX3_age_92 : decode cX3_age 92 = .ok (.aload_n 0, 1) := by decide +kernel
theorem dX3_age_93 : decode cX3_age 93 = .ok (.getfield 34, 3) := by decide +kernel
theorem dX3_age_96 : decode cX3_age 96 = .ok (.iload_n 3, 1) := by decide +kernel
theorem dX3_age_97 : decode cX3_age 97 = .ok (.baload, 1) := by decide +kernel
theorem dX3_age_98 : decode cX3_age 98 = .ok (.bastore, 1) := by decide +kernel
theorem dX3_age_99 : decode cX3_age 99 = .ok (.iinc 3 1, 3) := by decide +kernel
theorem dX3_age_102 : decode cX3_age 102 = .ok (.goto (-98), 3) := by decide +kernel
theorem dX3_age_105 : decode cX3_age 105 = .ok (.aload_n 0, 1) := by decide +kernel
theorem dX3_age_106 : decode cX3_age 106 = .ok (.iload_n 2, 1) := by decide +kernel
theorem dX3_age_107 : decode cX3_age 107 = .ok (.putfield 108, 3) := by decide +kernel
theorem dX3_age_110 : decode cX3_age 110 = .ok (.return_, 1) := by decide +kernel
abbrev cX3_hasKey : ByteArray := prog_2_method_5_code
def yX3_hasKey : MethodName := ⟨RX3, "hasKey", "(II)Z"⟩
theorem dX3_hasKey_0 : decode cX3_hasKey 0 = .ok (.aload_n 0, 1) := by decide +kernel
theorem dX3_hasKey_1 : decode cX3_hasKey 1 = .ok (.getfield 65, 3) := by decide +kernel
theorem dX3_hasKey_4 : decode cX3_hasKey 4 = .ok (.iconst (-1), 1) := by decide +kernel
theorem dX3_hasKey_5 : decode cX3_hasKey 5 = .ok (.if_icmp .eq 38, 3) := by decide +kernel
theorem dX3_hasKey_8 : decode cX3_hasKey 8 = .ok (.aload_n 0, 1) := by decide +kernel
theorem dX3_hasKey_9 : decode cX3_hasKey 9 = .ok (.getfield 3, 3) := by decide +kernel
theorem dX3_hasKey_12 : decode cX3_hasKey 12 = .ok (.getfield 45, 3) := by decide +kernel
theorem dX3_hasKey_15 : decode cX3_hasKey 15 = .ok (.iload_n 1, 1) := by decide +kernel
theorem dX3_hasKey_16 : decode cX3_hasKey 16 = .ok (.iconst 4, 1) := by decide +kernel
theorem dX3_hasKey_17 : decode cX3_hasKey 17 = .ok (.imul, 1) := by decide +kernel
theorem dX3_hasKey_18 : decode cX3_hasKey 18 = .ok (.aload_n 0, 1) := by decide +kernel
theorem dX3_hasKey_19 : decode cX3_hasKey 19 = .ok (.getfield 65, 3) := by decide +kernel
theorem dX3_hasKey_22 : decode cX3_hasKey 22 = .ok (.iadd, 1) := by decide +kernel
theorem dX3_hasKey_23 : decode cX3_hasKey 23 = .ok (.iaload, 1) := by decide +kernel
theorem dX3_hasKey_24 : decode cX3_hasKey 24 = .ok (.aload_n 0, 1) := by decide +kernel
theorem dX3_hasKey_25 : decode cX3_hasKey 25 = .ok (.getfield 3, 3) := by decide +kernel
theorem dX3_hasKey_28 : decode cX3_hasKey 28 = .ok (.getfield 45, 3) := by decide +kernel
theorem dX3_hasKey_31 : decode cX3_hasKey 31 = .ok (.iload_n 2, 1) := by decide +kernel
theorem dX3_hasKey_32 : decode cX3_hasKey 32 = .ok (.iconst 4, 1) := by decide +kernel
theorem dX3_hasKey_33 : decode cX3_hasKey 33 = .ok (.imul, 1) := by decide +kernel
theorem dX3_hasKey_34 : decode cX3_hasKey 34 = .ok (.aload_n 0, 1) := by decide +kernel
theorem dX3_hasKey_35 : decode cX3_hasKey 35 = .ok (.getfield 65, 3) := by decide +kernel
theorem dX3_hasKey_38 : decode cX3_hasKey 38 = .ok (.iadd, 1) := by decide +kernel
theorem dX3_hasKey_39 : decode cX3_hasKey 39 = .ok (.iaload, 1) := by decide +kernel
theorem dX3_hasKey_40 : decode cX3_hasKey 40 = .ok (.if_icmp .ne 7, 3) := by decide +kernel
theorem dX3_hasKey_43 : decode cX3_hasKey 43 = .ok (.iconst 1, 1) := by decide +kernel
theorem dX3_hasKey_44 : decode cX3_hasKey 44 = .ok (.goto 4, 3) := by decide +kernel
theorem dX3_hasKey_47 : decode cX3_hasKey 47 = .ok (.iconst 0, 1) := by decide +kernel
theorem dX3_hasKey_48 : decode cX3_hasKey 48 = .ok (.ireturn, 1) := by decide +kernel
abbrev cX3_every : ByteArray := prog_2_method_12_code
def yX3_every : MethodName := ⟨RX3, "every", "(II)V"⟩
theorem dX3_every_0 : decode cX3_every 0 = .ok (.iconst 0, 1) := by decide +kernel
theorem dX3_every_1 : decode cX3_every 1 = .ok (.istore_n 3, 1) := by decide +kernel
theorem dX3_every_2 : decode cX3_every 2 = .ok (.iload_n 3, 1) := by decide +kernel
theorem dX3_every_3 : decode cX3_every 3 = .ok (.iconst (-1), 1) := by decide +kernel
theorem dX3_every_4 : decode cX3_every 4 = .ok (.if_icmp .eq 94, 3) := by decide +kernel
theorem dX3_every_7 : decode cX3_every 7 = .ok (.aload_n 0, 1) := by decide +kernel
theorem dX3_every_8 : decode cX3_every 8 = .ok (.getfield 124, 3) := by decide +kernel
theorem dX3_every_11 : decode cX3_every 11 = .ok (.ifCond .ne 87, 3) := by decide +kernel
theorem dX3_every_14 : decode cX3_every 14 = .ok (.aload_n 0, 1) := by decide +kernel
theorem dX3_every_15 : decode cX3_every 15 = .ok (.aload_n 0, 1) := by decide +kernel
theorem dX3_every_16 : decode cX3_every 16 = .ok (.getfield 31, 3) := by decide +kernel
theorem dX3_every_19 : decode cX3_every 19 = .ok (.iload_n 1, 1) := by decide +kernel
theorem dX3_every_20 : decode cX3_every 20 = .ok (.iaload, 1) := by decide +kernel
theorem dX3_every_21 : decode cX3_every 21 = .ok (.aload_n 0, 1) := by decide +kernel
theorem dX3_every_22 : decode cX3_every 22 = .ok (.getfield 34, 3) := by decide +kernel
theorem dX3_every_25 : decode cX3_every 25 = .ok (.iload_n 1, 1) := by decide +kernel
theorem dX3_every_26 : decode cX3_every 26 = .ok (.baload, 1) := by decide +kernel
theorem dX3_every_27 : decode cX3_every 27 = .ok (.iload_n 2, 1) := by decide +kernel
theorem dX3_every_28 : decode cX3_every 28 = .ok (.iload_n 3, 1) := by decide +kernel
theorem dX3_every_29 : decode cX3_every 29 = .ok (.invokevirtual 138, 3) := by decide +kernel
theorem dX3_every_32 : decode cX3_every 32 = .ok (.istore 4, 2) := by decide +kernel
theorem dX3_every_34 : decode cX3_every 34 = .ok (.iload 4, 2) := by decide +kernel
theorem dX3_every_36 : decode cX3_every 36 = .ok (.iconst (-1), 1) := by decide +kernel
theorem dX3_every_37 : decode cX3_every 37 = .ok (.if_icmp .ne 4, 3) := by decide +kernel
theorem dX3_every_40 : decode cX3_every 40 = .ok (.return_, 1) := by decide +kernel
theorem dX3_every_41 : decode cX3_every 41 = .ok (.iload 4, 2) := by decide +kernel
theorem dX3_every_43 : decode cX3_every 43 = .ok (.aload_n 0, 1) := by decide +kernel
theorem dX3_every_44 : decode cX3_every 44 = .ok (.getfield 3, 3) := by decide +kernel
theorem dX3_every_47 : decode cX3_every 47 = .ok (.getfield 48, 3) := by decide +kernel
theorem dX3_every_50 : decode cX3_every 50 = .ok (.getfield 58, 3) := by decide +kernel
theorem dX3_every_53 : decode cX3_every 53 = .ok (.aload_n 0, 1) := by decide +kernel
theorem dX3_every_54 : decode cX3_every 54 = .ok (.getfield 31, 3) := by decide +kernel
theorem dX3_every_57 : decode cX3_every 57 = .ok (.iload_n 1, 1) := by decide +kernel
theorem dX3_every_58 : decode cX3_every 58 = .ok (.iaload, 1) := by decide +kernel
theorem dX3_every_59 : decode cX3_every 59 = .ok (.iaload, 1) := by decide +kernel
theorem dX3_every_60 : decode cX3_every 60 = .ok (.if_icmp .ne 7, 3) := by decide +kernel
theorem dX3_every_63 : decode cX3_every 63 = .ok (.iconst (-1), 1) := by decide +kernel
theorem dX3_every_64 : decode cX3_every 64 = .ok (.goto 7, 3) := by decide +kernel
theorem dX3_every_67 : decode cX3_every 67 = .ok (.iload 4, 2) := by decide +kernel
theorem dX3_every_69 : decode cX3_every 69 = .ok (.iconst 1, 1) := by decide +kernel
theorem dX3_every_70 : decode cX3_every 70 = .ok (.iadd, 1) := by decide +kernel
theorem dX3_every_71 : decode cX3_every 71 = .ok (.istore_n 3, 1) := by decide +kernel
theorem dX3_every_72 : decode cX3_every 72 = .ok (.aload_n 0, 1) := by decide +kernel
theorem dX3_every_73 : decode cX3_every 73 = .ok (.aload_n 0, 1) := by decide +kernel
theorem dX3_every_74 : decode cX3_every 74 = .ok (.getfield 3, 3) := by decide +kernel
theorem dX3_every_77 : decode cX3_every 77 = .ok (.getfield 48, 3) := by decide +kernel
theorem dX3_every_80 : decode cX3_every 80 = .ok (.iload_n 2, 1) := by decide +kernel
theorem dX3_every_81 : decode cX3_every 81 = .ok (.iload 4, 2) := by decide +kernel
theorem dX3_every_83 : decode cX3_every 83 = .ok (.aload_n 0, 1) := by decide +kernel
theorem dX3_every_84 : decode cX3_every 84 = .ok (.getfield 31, 3) := by decide +kernel
theorem dX3_every_87 : decode cX3_every 87 = .ok (.iload_n 1, 1) := by decide +kernel
theorem dX3_every_88 : decode cX3_every 88 = .ok (.iaload, 1) := by decide +kernel
theorem dX3_every_89 : decode cX3_every 89 = .ok (.invokevirtual 142, 3) := by decide +kernel
theorem dX3_every_92 : decode cX3_every 92 = .ok (.invokevirtual 146, 3) := by decide +kernel
theorem dX3_every_95 : decode cX3_every 95 = .ok (.goto (-93), 3) := by decide +kernel
theorem dX3_every_98 : decode cX3_every 98 = .ok (.return_, 1) := by decide +kernel
abbrev cX3_move : ByteArray := prog_2_method_6_code
def yX3_move : MethodName := ⟨RX3, "move", "(IZII)I"⟩
theorem dX3_move_0 : decode cX3_move 0 = .ok (.aload_n 0, 1) := by decide +kernel
theorem dX3_move_1 : decode cX3_move 1 = .ok (.getfield 3, 3) := by decide +kernel
theorem dX3_move_4 : decode cX3_move 4 = .ok (.getfield 48, 3) := by decide +kernel
theorem dX3_move_7 : decode cX3_move 7 = .ok (.getfield 58, 3) := by decide +kernel
theorem dX3_move_10 : decode cX3_move 10 = .ok (.iload_n 1, 1) := by decide +kernel
theorem dX3_move_11 : decode cX3_move 11 = .ok (.iaload, 1) := by decide +kernel
theorem dX3_move_12 : decode cX3_move 12 = .ok (.istore 5, 2) := by decide +kernel
theorem dX3_move_14 : decode cX3_move 14 = .ok (.iconst 1, 1) := by decide +kernel
theorem dX3_move_15 : decode cX3_move 15 = .ok (.istore 6, 2) := by decide +kernel
theorem dX3_move_17 : decode cX3_move 17 = .ok (.iconst 0, 1) := by decide +kernel
theorem dX3_move_18 : decode cX3_move 18 = .ok (.istore 7, 2) := by decide +kernel
theorem dX3_move_20 : decode cX3_move 20 = .ok (.iload 5, 2) := by decide +kernel
theorem dX3_move_22 : decode cX3_move 22 = .ok (.iconst 1, 1) := by decide +kernel
theorem dX3_move_23 : decode cX3_move 23 = .ok (.iadd, 1) := by decide +kernel
theorem dX3_move_24 : decode cX3_move 24 = .ok (.istore 8, 2) := by decide +kernel
theorem dX3_move_26 : decode cX3_move 26 = .ok (.iload 8, 2) := by decide +kernel
theorem dX3_move_28 : decode cX3_move 28 = .ok (.aload_n 0, 1) := by decide +kernel
theorem dX3_move_29 : decode cX3_move 29 = .ok (.getfield 61, 3) := by decide +kernel
theorem dX3_move_32 : decode cX3_move 32 = .ok (.if_icmp .ge 111, 3) := by decide +kernel
theorem dX3_move_35 : decode cX3_move 35 = .ok (.iload 6, 2) := by decide +kernel
theorem dX3_move_37 : decode cX3_move 37 = .ok (.ifCond .eq 106, 3) := by decide +kernel
theorem dX3_move_40 : decode cX3_move 40 = .ok (.aload_n 0, 1) := by decide +kernel
theorem dX3_move_41 : decode cX3_move 41 = .ok (.getfield 15, 3) := by decide +kernel
theorem dX3_move_44 : decode cX3_move 44 = .ok (.iload 8, 2) := by decide +kernel
theorem dX3_move_46 : decode cX3_move 46 = .ok (.iaload, 1) := by decide +kernel
theorem dX3_move_47 : decode cX3_move 47 = .ok (.iconst 3, 1) := by decide +kernel
theorem dX3_move_48 : decode cX3_move 48 = .ok (.if_icmp .eq 7, 3) := by decide +kernel
theorem dX3_move_51 : decode cX3_move 51 = .ok (.iconst 1, 1) := by decide +kernel
theorem dX3_move_52 : decode cX3_move 52 = .ok (.goto 4, 3) := by decide +kernel
theorem dX3_move_55 : decode cX3_move 55 = .ok (.iconst 0, 1) := by decide +kernel
theorem dX3_move_56 : decode cX3_move 56 = .ok (.istore 9, 2) := by decide +kernel
theorem dX3_move_58 : decode cX3_move 58 = .ok (.iload 9, 2) := by decide +kernel
theorem dX3_move_60 : decode cX3_move 60 = .ok (.ifCond .eq 33, 3) := by decide +kernel
theorem dX3_move_63 : decode cX3_move 63 = .ok (.iload 8, 2) := by decide +kernel
theorem dX3_move_65 : decode cX3_move 65 = .ok (.iload 4, 2) := by decide +kernel
theorem dX3_move_67 : decode cX3_move 67 = .ok (.if_icmp .lt 26, 3) := by decide +kernel
theorem dX3_move_70 : decode cX3_move 70 = .ok (.iload 7, 2) := by decide +kernel
theorem dX3_move_72 : decode cX3_move 72 = .ok (.ifCond .eq 7, 3) := by decide +kernel
theorem dX3_move_75 : decode cX3_move 75 = .ok (.iload_n 2, 1) := by decide +kernel
theorem dX3_move_76 : decode cX3_move 76 = .ok (.ifCond .ne 17, 3) := by decide +kernel
theorem dX3_move_79 : decode cX3_move 79 = .ok (.aload_n 0, 1) := by decide +kernel
theorem dX3_move_80 : decode cX3_move 80 = .ok (.iload 8, 2) := by decide +kernel
theorem dX3_move_82 : decode cX3_move 82 = .ok (.iload_n 1, 1) := by decide +kernel
theorem dX3_move_83 : decode cX3_move 83 = .ok (.iload_n 3, 1) := by decide +kernel
theorem dX3_move_84 : decode cX3_move 84 = .ok (.invokevirtual 68, 3) := by decide +kernel
theorem dX3_move_87 : decode cX3_move 87 = .ok (.ifCond .eq 6, 3) := by decide +kernel
theorem dX3_move_90 : decode cX3_move 90 = .ok (.iload 8, 2) := by decide +kernel
theorem dX3_move_92 : decode cX3_move 92 = .ok (.ireturn, 1) := by decide +kernel
theorem dX3_move_93 : decode cX3_move 93 = .ok (.iload 7, 2) := by decide +kernel
theorem dX3_move_95 : decode cX3_move 95 = .ok (.iload 9, 2) := by decide +kernel
theorem dX3_move_97 : decode cX3_move 97 = .ok (.ifCond .ne 7, 3) := by decide +kernel
theorem dX3_move_100 : decode cX3_move 100 = .ok (.iconst 1, 1) := by decide +kernel
theorem dX3_move_101 : decode cX3_move 101 = .ok (.goto 4, 3) := by decide +kernel
theorem dX3_move_104 : decode cX3_move 104 = .ok (.iconst 0, 1) := by decide +kernel
theorem dX3_move_105 : decode cX3_move 105 = .ok (.ior, 1) := by decide +kernel
theorem dX3_move_106 : decode cX3_move 106 = .ok (.istore 7, 2) := by decide +kernel
theorem dX3_move_108 : decode cX3_move 108 = .ok (.aload_n 0, 1) := by decide +kernel
theorem dX3_move_109 : decode cX3_move 109 = .ok (.getfield 15, 3) := by decide +kernel
theorem dX3_move_112 : decode cX3_move 112 = .ok (.iload 8, 2) := by decide +kernel
theorem dX3_move_114 : decode cX3_move 114 = .ok (.iaload, 1) := by decide +kernel
theorem dX3_move_115 : decode cX3_move 115 = .ok (.iconst 2, 1) := by decide +kernel
theorem dX3_move_116 : decode cX3_move 116 = .ok (.if_icmp .eq 14, 3) := by decide +kernel
theorem dX3_move_119 : decode cX3_move 119 = .ok (.aload_n 0, 1) := by decide +kernel
theorem dX3_move_120 : decode cX3_move 120 = .ok (.getfield 15, 3) := by decide +kernel
theorem dX3_move_123 : decode cX3_move 123 = .ok (.iload 8, 2) := by decide +kernel
theorem dX3_move_125 : decode cX3_move 125 = .ok (.iaload, 1) := by decide +kernel
theorem dX3_move_126 : decode cX3_move 126 = .ok (.iconst 3, 1) := by decide +kernel
theorem dX3_move_127 : decode cX3_move 127 = .ok (.if_icmp .ne 7, 3) := by decide +kernel
theorem dX3_move_130 : decode cX3_move 130 = .ok (.iconst 1, 1) := by decide +kernel
theorem dX3_move_131 : decode cX3_move 131 = .ok (.goto 4, 3) := by decide +kernel
theorem dX3_move_134 : decode cX3_move 134 = .ok (.iconst 0, 1) := by decide +kernel
theorem dX3_move_135 : decode cX3_move 135 = .ok (.istore 6, 2) := by decide +kernel
theorem dX3_move_137 : decode cX3_move 137 = .ok (.iinc 8 1, 3) := by decide +kernel
theorem dX3_move_140 : decode cX3_move 140 = .ok (.goto (-114), 3) := by decide +kernel
theorem dX3_move_143 : decode cX3_move 143 = .ok (.iload 4, 2) := by decide +kernel
theorem dX3_move_145 : decode cX3_move 145 = .ok (.bipush 6, 2) := by decide +kernel
theorem dX3_move_147 : decode cX3_move 147 = .ok (.if_icmp .gt 45, 3) := by decide +kernel
theorem dX3_move_150 : decode cX3_move 150 = .ok (.aload_n 0, 1) := by decide +kernel
theorem dX3_move_151 : decode cX3_move 151 = .ok (.getfield 15, 3) := by decide +kernel
theorem dX3_move_154 : decode cX3_move 154 = .ok (.iload 5, 2) := by decide +kernel
theorem dX3_move_156 : decode cX3_move 156 = .ok (.iaload, 1) := by decide +kernel
theorem dX3_move_157 : decode cX3_move 157 = .ok (.iconst 1, 1) := by decide +kernel
theorem dX3_move_158 : decode cX3_move 158 = .ok (.if_icmp .ne 34, 3) := by decide +kernel
theorem dX3_move_161 : decode cX3_move 161 = .ok (.aload_n 0, 1) := by decide +kernel
theorem dX3_move_162 : decode cX3_move 162 = .ok (.getfield 3, 3) := by decide +kernel
theorem dX3_move_165 : decode cX3_move 165 = .ok (.getfield 48, 3) := by decide +kernel
theorem dX3_move_168 : decode cX3_move 168 = .ok (.iload_n 1, 1) := by decide +kernel
theorem dX3_move_169 : decode cX3_move 169 = .ok (.invokevirtual 72, 3) := by decide +kernel
theorem dX3_move_172 : decode cX3_move 172 = .ok (.iconst 4, 1) := by decide +kernel
theorem dX3_move_173 : decode cX3_move 173 = .ok (.if_icmp .ge 19, 3) := by decide +kernel
theorem dX3_move_176 : decode cX3_move 176 = .ok (.aload_n 0, 1) := by decide +kernel
theorem dX3_move_177 : decode cX3_move 177 = .ok (.iload 5, 2) := by decide +kernel
theorem dX3_move_179 : decode cX3_move 179 = .ok (.iload_n 1, 1) := by decide +kernel
theorem dX3_move_180 : decode cX3_move 180 = .ok (.iload_n 3, 1) := by decide +kernel
theorem dX3_move_181 : decode cX3_move 181 = .ok (.invokevirtual 68, 3) := by decide +kernel
theorem dX3_move_184 : decode cX3_move 184 = .ok (.ifCond .eq 8, 3) := by decide +kernel
theorem dX3_move_187 : decode cX3_move 187 = .ok (.iload 5, 2) := by decide +kernel
theorem dX3_move_189 : decode cX3_move 189 = .ok (.goto 4, 3) := by decide +kernel
theorem dX3_move_192 : decode cX3_move 192 = .ok (.iconst (-1), 1) := by decide +kernel
theorem dX3_move_193 : decode cX3_move 193 = .ok (.ireturn, 1) := by decide +kernel
abbrev cX3_fits : ByteArray := prog_2_method_2_code
def yX3_fits : MethodName := ⟨RX3, "fits", "(III)Z"⟩
theorem dX3_fits_0 : decode cX3_fits 0 = .ok (.aload_n 0, 1) := by decide +kernel
theorem dX3_fits_1 : decode cX3_fits 1 = .ok (.getfield 3, 3) := by decide +kernel
theorem dX3_fits_4 : decode cX3_fits 4 = .ok (.aload_n 0, 1) := by decide +kernel
theorem dX3_fits_5 : decode cX3_fits 5 = .ok (.getfield 3, 3) := by decide +kernel
theorem dX3_fits_8 : decode cX3_fits 8 = .ok (.getfield 38, 3) := by decide +kernel
theorem dX3_fits_11 : decode cX3_fits 11 = .ok (.iload_n 3, 1) := by decide +kernel
theorem dX3_fits_12 : decode cX3_fits 12 = .ok (.iaload, 1) := by decide +kernel
theorem dX3_fits_13 : decode cX3_fits 13 = .ok (.aload_n 0, 1) := by decide +kernel
theorem dX3_fits_14 : decode cX3_fits 14 = .ok (.getfield 19, 3) := by decide +kernel
theorem dX3_fits_17 : decode cX3_fits 17 = .ok (.iload_n 1, 1) := by decide +kernel
theorem dX3_fits_18 : decode cX3_fits 18 = .ok (.iaload, 1) := by decide +kernel
theorem dX3_fits_19 : decode cX3_fits 19 = .ok (.invokevirtual 41, 3) := by decide +kernel
theorem dX3_fits_22 : decode cX3_fits 22 = .ok (.ifCond .ne 5, 3) := by decide +kernel
theorem dX3_fits_25 : decode cX3_fits 25 = .ok (.iconst 0, 1) := by decide +kernel
theorem dX3_fits_26 : decode cX3_fits 26 = .ok (.ireturn, 1) := by decide +kernel
theorem dX3_fits_27 : decode cX3_fits 27 = .ok (.aload_n 0, 1) := by decide +kernel
theorem dX3_fits_28 : decode cX3_fits 28 = .ok (.getfield 22, 3) := by decide +kernel
theorem dX3_fits_31 : decode cX3_fits 31 = .ok (.iload_n 1, 1) := by decide +kernel
theorem dX3_fits_32 : decode cX3_fits 32 = .ok (.iaload, 1) := by decide +kernel
theorem dX3_fits_33 : decode cX3_fits 33 = .ok (.ifCond .ne 5, 3) := by decide +kernel
theorem dX3_fits_36 : decode cX3_fits 36 = .ok (.iconst 1, 1) := by decide +kernel
theorem dX3_fits_37 : decode cX3_fits 37 = .ok (.ireturn, 1) := by decide +kernel
theorem dX3_fits_38 : decode cX3_fits 38 = .ok (.aload_n 0, 1) := by decide +kernel
theorem dX3_fits_39 : decode cX3_fits 39 = .ok (.getfield 3, 3) := by decide +kernel
theorem dX3_fits_42 : decode cX3_fits 42 = .ok (.getfield 45, 3) := by decide +kernel
theorem dX3_fits_45 : decode cX3_fits 45 = .ok (.iload_n 3, 1) := by decide +kernel
theorem dX3_fits_46 : decode cX3_fits 46 = .ok (.iconst 4, 1) := by decide +kernel
theorem dX3_fits_47 : decode cX3_fits 47 = .ok (.imul, 1) := by decide +kernel
theorem dX3_fits_48 : decode cX3_fits 48 = .ok (.aload_n 0, 1) := by decide +kernel
theorem dX3_fits_49 : decode cX3_fits 49 = .ok (.getfield 25, 3) := by decide +kernel
theorem dX3_fits_52 : decode cX3_fits 52 = .ok (.iload_n 1, 1) := by decide +kernel
theorem dX3_fits_53 : decode cX3_fits 53 = .ok (.iaload, 1) := by decide +kernel
theorem dX3_fits_54 : decode cX3_fits 54 = .ok (.iadd, 1) := by decide +kernel
theorem dX3_fits_55 : decode cX3_fits 55 = .ok (.iaload, 1) := by decide +kernel
theorem dX3_fits_56 : decode cX3_fits 56 = .ok (.istore 4, 2) := by decide +kernel
theorem dX3_fits_58 : decode cX3_fits 58 = .ok (.aload_n 0, 1) := by decide +kernel
theorem dX3_fits_59 : decode cX3_fits 59 = .ok (.getfield 28, 3) := by decide +kernel
theorem dX3_fits_62 : decode cX3_fits 62 = .ok (.iload_n 1, 1) := by decide +kernel
theorem dX3_fits_63 : decode cX3_fits 63 = .ok (.iaload, 1) := by decide +kernel
theorem dX3_fits_64 : decode cX3_fits 64 = .ok (.istore 5, 2) := by decide +kernel
theorem dX3_fits_66 : decode cX3_fits 66 = .ok (.aload_n 0, 1) := by decide +kernel
theorem dX3_fits_67 : decode cX3_fits 67 = .ok (.getfield 22, 3) := by decide +kernel
theorem dX3_fits_70 : decode cX3_fits 70 = .ok (.iload_n 1, 1) := by decide +kernel
theorem dX3_fits_71 : decode cX3_fits 71 = .ok (.iaload, 1) := by decide +kernel
theorem dX3_fits_72 : decode cX3_fits 72 = .ok (.iconst 3, 1) := by decide +kernel
theorem dX3_fits_73 : decode cX3_fits 73 = .ok (.if_icmp .le 47, 3) := by decide +kernel
theorem dX3_fits_76 : decode cX3_fits 76 = .ok (.aload_n 0, 1) := by decide +kernel
theorem dX3_fits_77 : decode cX3_fits 77 = .ok (.getfield 3, 3) := by decide +kernel
theorem dX3_fits_80 : decode cX3_fits 80 = .ok (.getfield 48, 3) := by decide +kernel
theorem dX3_fits_83 : decode cX3_fits 83 = .ok (.iload_n 2, 1) := by decide +kernel
theorem dX3_fits_84 : decode cX3_fits 84 = .ok (.iload 5, 2) := by decide +kernel
theorem dX3_fits_86 : decode cX3_fits 86 = .ok (.invokevirtual 52, 3) := by decide +kernel
theorem dX3_fits_89 : decode cX3_fits 89 = .ok (.istore 6, 2) := by decide +kernel
theorem dX3_fits_91 : decode cX3_fits 91 = .ok (.iload 6, 2) := by decide +kernel
theorem dX3_fits_93 : decode cX3_fits 93 = .ok (.iconst (-1), 1) := by decide +kernel
theorem dX3_fits_94 : decode cX3_fits 94 = .ok (.if_icmp .ne 5, 3) := by decide +kernel
theorem dX3_fits_97 : decode cX3_fits 97 = .ok (.iconst 1, 1) := by decide +kernel
theorem dX3_fits_98 : decode cX3_fits 98 = .ok (.ireturn, 1) := by decide +kernel
theorem dX3_fits_99 : decode cX3_fits 99 = .ok (.aload_n 0, 1) := by decide +kernel
theorem dX3_fits_100 : decode cX3_fits 100 = .ok (.getfield 3, 3) := by decide +kernel
theorem dX3_fits_103 : decode cX3_fits 103 = .ok (.getfield 45, 3) := by decide +kernel
theorem dX3_fits_106 : decode cX3_fits 106 = .ok (.iload 6, 2) := by decide +kernel
theorem dX3_fits_108 : decode cX3_fits 108 = .ok (.iconst 4, 1) := by decide +kernel
theorem dX3_fits_109 : decode cX3_fits 109 = .ok (.imul, 1) := by decide +kernel
theorem dX3_fits_110 : decode cX3_fits 110 = .ok (.aload_n 0, 1) := by decide +kernel
theorem dX3_fits_111 : decode cX3_fits 111 = .ok (.getfield 25, 3) := by decide +kernel
theorem dX3_fits_114 : decode cX3_fits 114 = .ok (.iload_n 1, 1) := by decide +kernel
theorem dX3_fits_115 : decode cX3_fits 115 = .ok (.iaload, 1) := by decide +kernel
theorem dX3_fits_116 : decode cX3_fits 116 = .ok (.iadd, 1) := by decide +kernel
theorem dX3_fits_117 : decode cX3_fits 117 = .ok (.iaload, 1) := by decide +kernel
theorem dX3_fits_118 : decode cX3_fits 118 = .ok (.istore 5, 2) := by decide +kernel
theorem dX3_fits_120 : decode cX3_fits 120 = .ok (.aload_n 0, 1) := by decide +kernel
theorem dX3_fits_121 : decode cX3_fits 121 = .ok (.getfield 22, 3) := by decide +kernel
theorem dX3_fits_124 : decode cX3_fits 124 = .ok (.iload_n 1, 1) := by decide +kernel
theorem dX3_fits_125 : decode cX3_fits 125 = .ok (.iaload, 1) := by decide +kernel
theorem dX3_fits_126 : decode cX3_fits 126 = .ok (.iconst 1, 1) := by decide +kernel
theorem dX3_fits_127 : decode cX3_fits 127 = .ok (.isub, 1) := by decide +kernel
theorem dX3_fits_128 : decode cX3_fits 128 = .ok (.iconst 3, 1) := by decide +kernel
theorem dX3_fits_129 : decode cX3_fits 129 = .ok (.irem, 1) := by decide +kernel
theorem dX3_fits_130 : decode cX3_fits 130 = .ok (.istore 6, 2) := by decide +kernel
theorem dX3_fits_132 : decode cX3_fits 132 = .ok (.iload 6, 2) := by decide +kernel
theorem dX3_fits_134 : decode cX3_fits 134 = .ok (.ifCond .ne 18, 3) := by decide +kernel
theorem dX3_fits_137 : decode cX3_fits 137 = .ok (.iload 4, 2) := by decide +kernel
theorem dX3_fits_139 : decode cX3_fits 139 = .ok (.iload 5, 2) := by decide +kernel
theorem dX3_fits_141 : decode cX3_fits 141 = .ok (.if_icmp .ge 7, 3) := by decide +kernel
theorem dX3_fits_144 : decode cX3_fits 144 = .ok (.iconst 1, 1) := by decide +kernel
theorem dX3_fits_145 : decode cX3_fits 145 = .ok (.goto 40, 3) := by decide +kernel
theorem dX3_fits_148 : decode cX3_fits 148 = .ok (.iconst 0, 1) := by decide +kernel
theorem dX3_fits_149 : decode cX3_fits 149 = .ok (.goto 36, 3) := by decide +kernel
theorem dX3_fits_152 : decode cX3_fits 152 = .ok (.iload 6, 2) := by decide +kernel
theorem dX3_fits_154 : decode cX3_fits 154 = .ok (.iconst 1, 1) := by decide +kernel
theorem dX3_fits_155 : decode cX3_fits 155 = .ok (.if_icmp .ne 18, 3) := by decide +kernel
theorem dX3_fits_158 : decode cX3_fits 158 = .ok (.iload 4, 2) := by decide +kernel
theorem dX3_fits_160 : decode cX3_fits 160 = .ok (.iload 5, 2) := by decide +kernel
theorem dX3_fits_162 : decode cX3_fits 162 = .ok (.if_icmp .ne 7, 3) := by decide +kernel
theorem dX3_fits_165 : decode cX3_fits 165 = .ok (.iconst 1, 1) := by decide +kernel
theorem dX3_fits_166 : decode cX3_fits 166 = .ok (.goto 19, 3) := by decide +kernel
theorem dX3_fits_169 : decode cX3_fits 169 = .ok (.iconst 0, 1) := by decide +kernel
theorem dX3_fits_170 : decode cX3_fits 170 = .ok (.goto 15, 3) := by decide +kernel
theorem dX3_fits_173 : decode cX3_fits 173 = .ok (.iload 4, 2) := by decide +kernel
theorem dX3_fits_175 : decode cX3_fits 175 = .ok (.iload 5, 2) := by decide +kernel
theorem dX3_fits_177 : decode cX3_fits 177 = .ok (.if_icmp .le 7, 3) := by decide +kernel
theorem dX3_fits_180 : decode cX3_fits 180 = .ok (.iconst 1, 1) := by decide +kernel
theorem dX3_fits_181 : decode cX3_fits 181 = .ok (.goto 4, 3) := by decide +kernel
theorem dX3_fits_184 : decode cX3_fits 184 = .ok (.iconst 0, 1) := by decide +kernel
theorem dX3_fits_185 : decode cX3_fits 185 = .ok (.ireturn, 1) := by decide +kernel
abbrev cX3_add : ByteArray := prog_2_method_10_code
def yX3_add : MethodName := ⟨RX3, "add", "(I)V"⟩
theorem dX3_add_0 : decode cX3_add 0 = .ok (.aload_n 0, 1) := by decide +kernel
theorem dX3_add_1 : decode cX3_add 1 = .ok (.getfield 108, 3) := by decide +kernel
theorem dX3_add_4 : decode cX3_add 4 = .ok (.sipush 200, 3) := by decide +kernel
theorem dX3_add_7 : decode cX3_add 7 = .ok (.if_icmp .ne 19, 3) := by decide +kernel
theorem dX3_add_10 : decode cX3_add 10 = .ok (.aload_n 0, 1) := by decide +kernel
theorem dX3_add_11 : decode cX3_add 11 = .ok (.getfield 3, 3) := by decide +kernel
theorem dX3_add_14 : decode cX3_add 14 = .ok (.getfield 48, 3) := by decide +kernel
theorem dX3_add_17 : decode cX3_add 17 = .ok (.iload_n 1, 1) := by decide +kernel
theorem dX3_add_18 : decode cX3_add 18 = .ok (.invokevirtual 120, 3) := by decide +kernel
theorem dX3_add_21 : decode cX3_add 21 = .ok (.aload_n 0, 1) := by decide +kernel
theorem dX3_add_22 : decode cX3_add 22 = .ok (.invokevirtual 128, 3) := by decide +kernel
theorem dX3_add_25 : decode cX3_add 25 = .ok (.return_, 1) := by decide +kernel
theorem dX3_add_26 : decode cX3_add 26 = .ok (.aload_n 0, 1) := by decide +kernel
theorem dX3_add_27 : decode cX3_add 27 = .ok (.getfield 31, 3) := by decide +kernel
theorem dX3_add_30 : decode cX3_add 30 = .ok (.aload_n 0, 1) := by decide +kernel
theorem dX3_add_31 : decode cX3_add 31 = .ok (.getfield 108, 3) := by decide +kernel
theorem dX3_add_34 : decode cX3_add 34 = .ok (.iload_n 1, 1) := by decide +kernel
theorem dX3_add_35 : decode cX3_add 35 = .ok (.iastore, 1) := by decide +kernel
theorem dX3_add_36 : decode cX3_add 36 = .ok (.aload_n 0, 1) := by decide +kernel
theorem dX3_add_37 : decode cX3_add 37 = .ok (.getfield 34, 3) := by decide +kernel
theorem dX3_add_40 : decode cX3_add 40 = .ok (.aload_n 0, 1) := by decide +kernel
theorem dX3_add_41 : decode cX3_add 41 = .ok (.dup, 1) := by decide +kernel
theorem dX3_add_42 : decode cX3_add 42 = .ok (.getfield 108, 3) := by decide +kernel
theorem dX3_add_45 : decode cX3_add 45 = .ok (.dup_x1, 1) := by decide +kernel
theorem dX3_add_46 : decode cX3_add 46 = .ok (.iconst 1, 1) := by decide +kernel
theorem dX3_add_47 : decode cX3_add 47 = .ok (.iadd, 1) := by decide +kernel
theorem dX3_add_48 : decode cX3_add 48 = .ok (.putfield 108, 3) := by decide +kernel
theorem dX3_add_51 : decode cX3_add 51 = .ok (.iconst 0, 1) := by decide +kernel
theorem dX3_add_52 : decode cX3_add 52 = .ok (.bastore, 1) := by decide +kernel
theorem dX3_add_53 : decode cX3_add 53 = .ok (.aload_n 0, 1) := by decide +kernel
theorem dX3_add_54 : decode cX3_add 54 = .ok (.iload_n 1, 1) := by decide +kernel
theorem dX3_add_55 : decode cX3_add 55 = .ok (.invokevirtual 131, 3) := by decide +kernel
theorem dX3_add_58 : decode cX3_add 58 = .ok (.ifCond .eq 8, 3) := by decide +kernel
theorem dX3_add_61 : decode cX3_add 61 = .ok (.aload_n 0, 1) := by decide +kernel
theorem dX3_add_62 : decode cX3_add 62 = .ok (.iload_n 1, 1) := by decide +kernel
theorem dX3_add_63 : decode cX3_add 63 = .ok (.invokevirtual 135, 3) := by decide +kernel
theorem dX3_add_66 : decode cX3_add 66 = .ok (.return_, 1) := by decide +kernel
abbrev cX3_spend : ByteArray := prog_2_method_9_code
def yX3_spend : MethodName := ⟨RX3, "spend", "()V"⟩
theorem dX3_spend_0 : decode cX3_spend 0 = .ok (.iconst 0, 1) := by decide +kernel
theorem dX3_spend_1 : decode cX3_spend 1 = .ok (.istore_n 1, 1) := by decide +kernel
theorem dX3_spend_2 : decode cX3_spend 2 = .ok (.iload_n 1, 1) := by decide +kernel
theorem dX3_spend_3 : decode cX3_spend 3 = .ok (.aload_n 0, 1) := by decide +kernel
theorem dX3_spend_4 : decode cX3_spend 4 = .ok (.getfield 108, 3) := by decide +kernel
theorem dX3_spend_7 : decode cX3_spend 7 = .ok (.if_icmp .ge 25, 3) := by decide +kernel
theorem dX3_spend_10 : decode cX3_spend 10 = .ok (.aload_n 0, 1) := by decide +kernel
theorem dX3_spend_11 : decode cX3_spend 11 = .ok (.getfield 3, 3) := by decide +kernel
theorem dX3_spend_14 : decode cX3_spend 14 = .ok (.getfield 48, 3) := by decide +kernel
theorem dX3_spend_17 : decode cX3_spend 17 = .ok (.aload_n 0, 1) := by decide +kernel
theorem dX3_spend_18 : decode cX3_spend 18 = .ok (.getfield 31, 3) := by decide +kernel
theorem dX3_spend_21 : decode cX3_spend 21 = .ok (.iload_n 1, 1) := by decide +kernel
theorem dX3_spend_22 : decode cX3_spend 22 = .ok (.iaload, 1) := by decide +kernel
theorem dX3_spend_23 : decode cX3_spend 23 = .ok (.invokevirtual 120, 3) := by decide +kernel
theorem dX3_spend_26 : decode cX3_spend 26 = .ok (.iinc 1 1, 3) := by decide +kernel
theorem dX3_spend_29 : decode cX3_spend 29 = .ok (.goto (-27), 3) := by decide +kernel
theorem dX3_spend_32 : decode cX3_spend 32 = .ok (.aload_n 0, 1) := by decide +kernel
theorem dX3_spend_33 : decode cX3_spend 33 = .ok (.iconst 0, 1) := by decide +kernel
theorem dX3_spend_34 : decode cX3_spend 34 = .ok (.putfield 108, 3) := by decide +kernel
theorem dX3_spend_37 : decode cX3_spend 37 = .ok (.aload_n 0, 1) := by decide +kernel
theorem dX3_spend_38 : decode cX3_spend 38 = .ok (.iconst 1, 1) := by decide +kernel
theorem dX3_spend_39 : decode cX3_spend 39 = .ok (.putfield 124, 3) := by decide +kernel
theorem dX3_spend_42 : decode cX3_spend 42 = .ok (.return_, 1) := by decide +kernel
abbrev cX3_isWhole : ByteArray := prog_2_method_3_code
def yX3_isWhole : MethodName := ⟨RX3, "isWhole", "(I)Z"⟩
theorem dX3_isWhole_0 : decode cX3_isWhole 0 = .ok (.iconst 1, 1) := by decide +kernel
theorem dX3_isWhole_1 : decode cX3_isWhole 1 = .ok (.istore_n 2, 1) := by decide +kernel
theorem dX3_isWhole_2 : decode cX3_isWhole 2 = .ok (.aload_n 0, 1) := by decide +kernel
theorem dX3_isWhole_3 : decode cX3_isWhole 3 = .ok (.getfield 3, 3) := by decide +kernel
theorem dX3_isWhole_6 : decode cX3_isWhole 6 = .ok (.getfield 48, 3) := by decide +kernel
theorem dX3_isWhole_9 : decode cX3_isWhole 9 = .ok (.getfield 58, 3) := by decide +kernel
theorem dX3_isWhole_12 : decode cX3_isWhole 12 = .ok (.iload_n 1, 1) := by decide +kernel
theorem dX3_isWhole_13 : decode cX3_isWhole 13 = .ok (.iaload, 1) := by decide +kernel
theorem dX3_isWhole_14 : decode cX3_isWhole 14 = .ok (.iconst 1, 1) := by decide +kernel
theorem dX3_isWhole_15 : decode cX3_isWhole 15 = .ok (.iadd, 1) := by decide +kernel
theorem dX3_isWhole_16 : decode cX3_isWhole 16 = .ok (.istore_n 3, 1) := by decide +kernel
theorem dX3_isWhole_17 : decode cX3_isWhole 17 = .ok (.iload_n 3, 1) := by decide +kernel
theorem dX3_isWhole_18 : decode cX3_isWhole 18 = .ok (.aload_n 0, 1) := by decide +kernel
theorem dX3_isWhole_19 : decode cX3_isWhole 19 = .ok (.getfield 61, 3) := by decide +kernel
theorem dX3_isWhole_22 : decode cX3_isWhole 22 = .ok (.if_icmp .ge 49, 3) := by decide +kernel
theorem dX3_isWhole_25 : decode cX3_isWhole 25 = .ok (.iload_n 2, 1) := by decide +kernel
theorem dX3_isWhole_26 : decode cX3_isWhole 26 = .ok (.ifCond .eq 45, 3) := by decide +kernel
theorem dX3_isWhole_29 : decode cX3_isWhole 29 = .ok (.aload_n 0, 1) := by decide +kernel
theorem dX3_isWhole_30 : decode cX3_isWhole 30 = .ok (.getfield 15, 3) := by decide +kernel
theorem dX3_isWhole_33 : decode cX3_isWhole 33 = .ok (.iload_n 3, 1) := by decide +kernel
theorem dX3_isWhole_34 : decode cX3_isWhole 34 = .ok (.iaload, 1) := by decide +kernel
theorem dX3_isWhole_35 : decode cX3_isWhole 35 = .ok (.iconst 2, 1) := by decide +kernel
theorem dX3_isWhole_36 : decode cX3_isWhole 36 = .ok (.if_icmp .eq 23, 3) := by decide +kernel
theorem dX3_isWhole_39 : decode cX3_isWhole 39 = .ok (.aload_n 0, 1) := by decide +kernel
theorem dX3_isWhole_40 : decode cX3_isWhole 40 = .ok (.getfield 15, 3) := by decide +kernel
theorem dX3_isWhole_43 : decode cX3_isWhole 43 = .ok (.iload_n 3, 1) := by decide +kernel
theorem dX3_isWhole_44 : decode cX3_isWhole 44 = .ok (.iaload, 1) := by decide +kernel
theorem dX3_isWhole_45 : decode cX3_isWhole 45 = .ok (.iconst 3, 1) := by decide +kernel
theorem dX3_isWhole_46 : decode cX3_isWhole 46 = .ok (.if_icmp .ne 17, 3) := by decide +kernel
theorem dX3_isWhole_49 : decode cX3_isWhole 49 = .ok (.iload_n 3, 1) := by decide +kernel
theorem dX3_isWhole_50 : decode cX3_isWhole 50 = .ok (.aload_n 0, 1) := by decide +kernel
theorem dX3_isWhole_51 : decode cX3_isWhole 51 = .ok (.getfield 61, 3) := by decide +kernel
theorem dX3_isWhole_54 : decode cX3_isWhole 54 = .ok (.iconst 1, 1) := by decide +kernel
theorem dX3_isWhole_55 : decode cX3_isWhole 55 = .ok (.isub, 1) := by decide +kernel
theorem dX3_isWhole_56 : decode cX3_isWhole 56 = .ok (.if_icmp .ne 7, 3) := by decide +kernel
theorem dX3_isWhole_59 : decode cX3_isWhole 59 = .ok (.iconst 1, 1) := by decide +kernel
theorem dX3_isWhole_60 : decode cX3_isWhole 60 = .ok (.goto 4, 3) := by decide +kernel
theorem dX3_isWhole_63 : decode cX3_isWhole 63 = .ok (.iconst 0, 1) := by decide +kernel
theorem dX3_isWhole_64 : decode cX3_isWhole 64 = .ok (.istore_n 2, 1) := by decide +kernel
theorem dX3_isWhole_65 : decode cX3_isWhole 65 = .ok (.iinc 3 1, 3) := by decide +kernel
theorem dX3_isWhole_68 : decode cX3_isWhole 68 = .ok (.goto (-51), 3) := by decide +kernel
theorem dX3_isWhole_71 : decode cX3_isWhole 71 = .ok (.iload_n 2, 1) := by decide +kernel
theorem dX3_isWhole_72 : decode cX3_isWhole 72 = .ok (.ireturn, 1) := by decide +kernel
abbrev cX3_tell : ByteArray := prog_2_method_7_code
def yX3_tell : MethodName := ⟨RX3, "tell", "(I)V"⟩
theorem dX3_tell_0 : decode cX3_tell 0 = .ok (.aload_n 0, 1) := by decide +kernel
theorem dX3_tell_1 : decode cX3_tell 1 = .ok (.dup, 1) := by decide +kernel
theorem dX3_tell_2 : decode cX3_tell 2 = .ok (.getfield 76, 3) := by decide +kernel
theorem dX3_tell_5 : decode cX3_tell 5 = .ok (.iconst 1, 1) := by decide +kernel
theorem dX3_tell_6 : decode cX3_tell 6 = .ok (.iadd, 1) := by decide +kernel
theorem dX3_tell_7 : decode cX3_tell 7 = .ok (.putfield 76, 3) := by decide +kernel
theorem dX3_tell_10 : decode cX3_tell 10 = .ok (.aload_n 0, 1) := by decide +kernel
theorem dX3_tell_11 : decode cX3_tell 11 = .ok (.getfield 3, 3) := by decide +kernel
theorem dX3_tell_14 : decode cX3_tell 14 = .ok (.getfield 79, 3) := by decide +kernel
theorem dX3_tell_17 : decode cX3_tell 17 = .ok (.sipush 1000, 3) := by decide +kernel
theorem dX3_tell_20 : decode cX3_tell 20 = .ok (.if_icmp .ge 185, 3) := by decide +kernel
theorem dX3_tell_23 : decode cX3_tell 23 = .ok (.aload_n 0, 1) := by decide +kernel
theorem dX3_tell_24 : decode cX3_tell 24 = .ok (.getfield 3, 3) := by decide +kernel
theorem dX3_tell_27 : decode cX3_tell 27 = .ok (.getfield 48, 3) := by decide +kernel
theorem dX3_tell_30 : decode cX3_tell 30 = .ok (.iload_n 1, 1) := by decide +kernel
theorem dX3_tell_31 : decode cX3_tell 31 = .ok (.invokevirtual 82, 3) := by decide +kernel
theorem dX3_tell_34 : decode cX3_tell 34 = .ok (.istore_n 2, 1) := by decide +kernel
theorem dX3_tell_35 : decode cX3_tell 35 = .ok (.aload_n 0, 1) := by decide +kernel
theorem dX3_tell_36 : decode cX3_tell 36 = .ok (.getfield 3, 3) := by decide +kernel
theorem dX3_tell_39 : decode cX3_tell 39 = .ok (.getfield 85, 3) := by decide +kernel
theorem dX3_tell_42 : decode cX3_tell 42 = .ok (.aload_n 0, 1) := by decide +kernel
theorem dX3_tell_43 : decode cX3_tell 43 = .ok (.getfield 3, 3) := by decide +kernel
theorem dX3_tell_46 : decode cX3_tell 46 = .ok (.getfield 79, 3) := by decide +kernel
theorem dX3_tell_49 : decode cX3_tell 49 = .ok (.aload_n 0, 1) := by decide +kernel
theorem dX3_tell_50 : decode cX3_tell 50 = .ok (.getfield 3, 3) := by decide +kernel
theorem dX3_tell_53 : decode cX3_tell 53 = .ok (.getfield 88, 3) := by decide +kernel
theorem dX3_tell_56 : decode cX3_tell 56 = .ok (.iastore, 1) := by decide +kernel
theorem dX3_tell_57 : decode cX3_tell 57 = .ok (.aload_n 0, 1) := by decide +kernel
theorem dX3_tell_58 : decode cX3_tell 58 = .ok (.getfield 3, 3) := by decide +kernel
theorem dX3_tell_61 : decode cX3_tell 61 = .ok (.getfield 91, 3) := by decide +kernel
theorem dX3_tell_64 : decode cX3_tell 64 = .ok (.aload_n 0, 1) := by decide +kernel
theorem dX3_tell_65 : decode cX3_tell 65 = .ok (.getfield 3, 3) := by decide +kernel
theorem dX3_tell_68 : decode cX3_tell 68 = .ok (.getfield 79, 3) := by decide +kernel
theorem dX3_tell_71 : decode cX3_tell 71 = .ok (.iload_n 2, 1) := by decide +kernel
theorem dX3_tell_72 : decode cX3_tell 72 = .ok (.iastore, 1) := by decide +kernel
theorem dX3_tell_73 : decode cX3_tell 73 = .ok (.aload_n 0, 1) := by decide +kernel
theorem dX3_tell_74 : decode cX3_tell 74 = .ok (.getfield 3, 3) := by decide +kernel
theorem dX3_tell_77 : decode cX3_tell 77 = .ok (.getfield 94, 3) := by decide +kernel
theorem dX3_tell_80 : decode cX3_tell 80 = .ok (.aload_n 0, 1) := by decide +kernel
theorem dX3_tell_81 : decode cX3_tell 81 = .ok (.getfield 3, 3) := by decide +kernel
theorem dX3_tell_84 : decode cX3_tell 84 = .ok (.getfield 79, 3) := by decide +kernel
theorem dX3_tell_87 : decode cX3_tell 87 = .ok (.iload_n 2, 1) := by decide +kernel
theorem dX3_tell_88 : decode cX3_tell 88 = .ok (.newarray .short, 2) := by decide +kernel
theorem dX3_tell_90 : decode cX3_tell 90 = .ok (.aastore, 1) := by decide +kernel
theorem dX3_tell_91 : decode cX3_tell 91 = .ok (.aload_n 0, 1) := by decide +kernel
theorem dX3_tell_92 : decode cX3_tell 92 = .ok (.getfield 3, 3) := by decide +kernel
theorem dX3_tell_95 : decode cX3_tell 95 = .ok (.getfield 98, 3) := by decide +kernel
theorem dX3_tell_98 : decode cX3_tell 98 = .ok (.aload_n 0, 1) := by decide +kernel
theorem dX3_tell_99 : decode cX3_tell 99 = .ok (.getfield 3, 3) := by decide +kernel
theorem dX3_tell_102 : decode cX3_tell 102 = .ok (.getfield 79, 3) := by decide +kernel
theorem dX3_tell_105 : decode cX3_tell 105 = .ok (.iload_n 2, 1) := by decide +kernel
theorem dX3_tell_106 : decode cX3_tell 106 = .ok (.newarray .byte, 2) := by decide +kernel
theorem dX3_tell_108 : decode cX3_tell 108 = .ok (.aastore, 1) := by decide +kernel
theorem dX3_tell_109 : decode cX3_tell 109 = .ok (.iload_n 2, 1) := by decide +kernel
theorem dX3_tell_110 : decode cX3_tell 110 = .ok (.iconst 1, 1) := by decide +kernel
theorem dX3_tell_111 : decode cX3_tell 111 = .ok (.isub, 1) := by decide +kernel
theorem dX3_tell_112 : decode cX3_tell 112 = .ok (.istore_n 3, 1) := by decide +kernel
theorem dX3_tell_113 : decode cX3_tell 113 = .ok (.iload_n 1, 1) := by decide +kernel
theorem dX3_tell_114 : decode cX3_tell 114 = .ok (.istore 4, 2) := by decide +kernel
theorem dX3_tell_116 : decode cX3_tell 116 = .ok (.iload 4, 2) := by decide +kernel
theorem dX3_tell_118 : decode cX3_tell 118 = .ok (.iconst (-1), 1) := by decide +kernel
theorem dX3_tell_119 : decode cX3_tell 119 = .ok (.if_icmp .eq 86, 3) := by decide +kernel
theorem dX3_tell_122 : decode cX3_tell 122 = .ok (.aload_n 0, 1) := by decide +kernel
theorem dX3_tell_123 : decode cX3_tell 123 = .ok (.getfield 3, 3) := by decide +kernel
theorem dX3_tell_126 : decode cX3_tell 126 = .ok (.getfield 94, 3) := by decide +kernel
theorem dX3_tell_129 : decode cX3_tell 129 = .ok (.aload_n 0, 1) := by decide +kernel
theorem dX3_tell_130 : decode cX3_tell 130 = .ok (.getfield 3, 3) := by decide +kernel
theorem dX3_tell_133 : decode cX3_tell 133 = .ok (.getfield 79, 3) := by decide +kernel
theorem dX3_tell_136 : decode cX3_tell 136 = .ok (.aaload, 1) := by decide +kernel
theorem dX3_tell_137 : decode cX3_tell 137 = .ok (.iload_n 3, 1) := by decide +kernel
theorem dX3_tell_138 : decode cX3_tell 138 = .ok (.aload_n 0, 1) := by decide +kernel
theorem dX3_tell_139 : decode cX3_tell 139 = .ok (.getfield 3, 3) := by decide +kernel
theorem dX3_tell_142 : decode cX3_tell 142 = .ok (.getfield 48, 3) := by decide +kernel
theorem dX3_tell_145 : decode cX3_tell 145 = .ok (.getfield 102, 3) := by decide +kernel
theorem dX3_tell_148 : decode cX3_tell 148 = .ok (.iload 4, 2) := by decide +kernel
theorem dX3_tell_150 : decode cX3_tell 150 = .ok (.iaload, 1) := by decide +kernel
theorem dX3_tell_151 : decode cX3_tell 151 = .ok (.i2s, 1) := by decide +kernel
theorem dX3_tell_152 : decode cX3_tell 152 = .ok (.sastore, 1) := by decide +kernel
theorem dX3_tell_153 : decode cX3_tell 153 = .ok (.aload_n 0, 1) := by decide +kernel
theorem dX3_tell_154 : decode cX3_tell 154 = .ok (.getfield 3, 3) := by decide +kernel
theorem dX3_tell_157 : decode cX3_tell 157 = .ok (.getfield 98, 3) := by decide +kernel
theorem dX3_tell_160 : decode cX3_tell 160 = .ok (.aload_n 0, 1) := by decide +kernel
theorem dX3_tell_161 : decode cX3_tell 161 = .ok (.getfield 3, 3) := by decide +kernel
theorem dX3_tell_164 : decode cX3_tell 164 = .ok (.getfield 79, 3) := by decide +kernel
theorem dX3_tell_167 : decode cX3_tell 167 = .ok (.aaload, 1) := by decide +kernel
theorem dX3_tell_168 : decode cX3_tell 168 = .ok (.iload_n 3, 1) := by decide +kernel
theorem dX3_tell_169 : decode cX3_tell 169 = .ok (.aload_n 0, 1) := by decide +kernel
theorem dX3_tell_170 : decode cX3_tell 170 = .ok (.getfield 3, 3) := by decide +kernel
theorem dX3_tell_173 : decode cX3_tell 173 = .ok (.getfield 48, 3) := by decide +kernel
theorem dX3_tell_176 : decode cX3_tell 176 = .ok (.getfield 58, 3) := by decide +kernel
theorem dX3_tell_179 : decode cX3_tell 179 = .ok (.iload 4, 2) := by decide +kernel
theorem dX3_tell_181 : decode cX3_tell 181 = .ok (.iaload, 1) := by decide +kernel
theorem dX3_tell_182 : decode cX3_tell 182 = .ok (.i2b, 1) := by decide +kernel
theorem dX3_tell_183 : decode cX3_tell 183 = .ok (.bastore, 1) := by decide +kernel
theorem dX3_tell_184 : decode cX3_tell 184 = .ok (.iinc 3 (-1), 3) := by decide +kernel
theorem dX3_tell_187 : decode cX3_tell 187 = .ok (.aload_n 0, 1) := by decide +kernel
theorem dX3_tell_188 : decode cX3_tell 188 = .ok (.getfield 3, 3) := by decide +kernel
theorem dX3_tell_191 : decode cX3_tell 191 = .ok (.getfield 48, 3) := by decide +kernel
theorem dX3_tell_194 : decode cX3_tell 194 = .ok (.getfield 105, 3) := by decide +kernel
theorem dX3_tell_197 : decode cX3_tell 197 = .ok (.iload 4, 2) := by decide +kernel
theorem dX3_tell_199 : decode cX3_tell 199 = .ok (.iaload, 1) := by decide +kernel
theorem dX3_tell_200 : decode cX3_tell 200 = .ok (.istore 4, 2) := by decide +kernel
theorem dX3_tell_202 : decode cX3_tell 202 = .ok (.goto (-86), 3) := by decide +kernel
theorem dX3_tell_205 : decode cX3_tell 205 = .ok (.aload_n 0, 1) := by decide +kernel
theorem dX3_tell_206 : decode cX3_tell 206 = .ok (.getfield 3, 3) := by decide +kernel
theorem dX3_tell_209 : decode cX3_tell 209 = .ok (.dup, 1) := by decide +kernel
theorem dX3_tell_210 : decode cX3_tell 210 = .ok (.getfield 79, 3) := by decide +kernel
theorem dX3_tell_213 : decode cX3_tell 213 = .ok (.iconst 1, 1) := by decide +kernel
theorem dX3_tell_214 : decode cX3_tell 214 = .ok (.iadd, 1) := by decide +kernel
theorem dX3_tell_215 : decode cX3_tell 215 = .ok (.putfield 79, 3) := by decide +kernel
theorem dX3_tell_218 : decode cX3_tell 218 = .ok (.return_, 1) := by decide +kernel
abbrev cX3_next : ByteArray := prog_2_method_13_code
def yX3_next : MethodName := ⟨RX3, "next", "(II)Z"⟩
theorem dX3_next_0 : decode cX3_next 0 = .ok (.aload_n 0, 1) := by decide +kernel
theorem dX3_next_1 : decode cX3_next 1 = .ok (.aload_n 0, 1) := by decide +kernel
theorem dX3_next_2 : decode cX3_next 2 = .ok (.getfield 31, 3) := by decide +kernel
theorem dX3_next_5 : decode cX3_next 5 = .ok (.iload_n 1, 1) := by decide +kernel
theorem dX3_next_6 : decode cX3_next 6 = .ok (.iaload, 1) := by decide +kernel
theorem dX3_next_7 : decode cX3_next 7 = .ok (.aload_n 0, 1) := by decide +kernel
theorem dX3_next_8 : decode cX3_next 8 = .ok (.getfield 34, 3) := by decide +kernel
theorem dX3_next_11 : decode cX3_next 11 = .ok (.iload_n 1, 1) := by decide +kernel
theorem dX3_next_12 : decode cX3_next 12 = .ok (.baload, 1) := by decide +kernel
theorem dX3_next_13 : decode cX3_next 13 = .ok (.iload_n 2, 1) := by decide +kernel
theorem dX3_next_14 : decode cX3_next 14 = .ok (.iconst 0, 1) := by decide +kernel
theorem dX3_next_15 : decode cX3_next 15 = .ok (.invokevirtual 138, 3) := by decide +kernel
theorem dX3_next_18 : decode cX3_next 18 = .ok (.istore_n 3, 1) := by decide +kernel
theorem dX3_next_19 : decode cX3_next 19 = .ok (.iload_n 3, 1) := by decide +kernel
theorem dX3_next_20 : decode cX3_next 20 = .ok (.iconst (-1), 1) := by decide +kernel
theorem dX3_next_21 : decode cX3_next 21 = .ok (.if_icmp .ne 5, 3) := by decide +kernel
theorem dX3_next_24 : decode cX3_next 24 = .ok (.iconst 0, 1) := by decide +kernel
theorem dX3_next_25 : decode cX3_next 25 = .ok (.ireturn, 1) := by decide +kernel
theorem dX3_next_26 : decode cX3_next 26 = .ok (.aload_n 0, 1) := by decide +kernel
theorem dX3_next_27 : decode cX3_next 27 = .ok (.getfield 31, 3) := by decide +kernel
theorem dX3_next_30 : decode cX3_next 30 = .ok (.iload_n 1, 1) := by decide +kernel
theorem dX3_next_31 : decode cX3_next 31 = .ok (.iaload, 1) := by decide +kernel
theorem dX3_next_32 : decode cX3_next 32 = .ok (.istore 4, 2) := by decide +kernel
theorem dX3_next_34 : decode cX3_next 34 = .ok (.aload_n 0, 1) := by decide +kernel
theorem dX3_next_35 : decode cX3_next 35 = .ok (.getfield 31, 3) := by decide +kernel
theorem dX3_next_38 : decode cX3_next 38 = .ok (.iload_n 1, 1) := by decide +kernel
theorem dX3_next_39 : decode cX3_next 39 = .ok (.aload_n 0, 1) := by decide +kernel
theorem dX3_next_40 : decode cX3_next 40 = .ok (.getfield 3, 3) := by decide +kernel
theorem dX3_next_43 : decode cX3_next 43 = .ok (.getfield 48, 3) := by decide +kernel
theorem dX3_next_46 : decode cX3_next 46 = .ok (.iload_n 2, 1) := by decide +kernel
theorem dX3_next_47 : decode cX3_next 47 = .ok (.iload_n 3, 1) := by decide +kernel
theorem dX3_next_48 : decode cX3_next 48 = .ok (.iload 4, 2) := by decide +kernel
theorem dX3_next_50 : decode cX3_next 50 = .ok (.invokevirtual 142, 3) := by decide +kernel
theorem dX3_next_53 : decode cX3_next 53 = .ok (.iastore, 1) := by decide +kernel
theorem dX3_next_54 : decode cX3_next 54 = .ok (.aload_n 0, 1) := by decide +kernel
theorem dX3_next_55 : decode cX3_next 55 = .ok (.getfield 3, 3) := by decide +kernel
theorem dX3_next_58 : decode cX3_next 58 = .ok (.getfield 48, 3) := by decide +kernel
theorem dX3_next_61 : decode cX3_next 61 = .ok (.iload 4, 2) := by decide +kernel
theorem dX3_next_63 : decode cX3_next 63 = .ok (.invokevirtual 120, 3) := by decide +kernel
theorem dX3_next_66 : decode cX3_next 66 = .ok (.aload_n 0, 1) := by decide +kernel
theorem dX3_next_67 : decode cX3_next 67 = .ok (.getfield 34, 3) := by decide +kernel
theorem dX3_next_70 : decode cX3_next 70 = .ok (.iload_n 1, 1) := by decide +kernel
theorem dX3_next_71 : decode cX3_next 71 = .ok (.iconst 0, 1) := by decide +kernel
theorem dX3_next_72 : decode cX3_next 72 = .ok (.bastore, 1) := by decide +kernel
theorem dX3_next_73 : decode cX3_next 73 = .ok (.iconst 1, 1) := by decide +kernel
theorem dX3_next_74 : decode cX3_next 74 = .ok (.ireturn, 1) := by decide +kernel
abbrev cX3_isHurtBy : ByteArray := prog_2_method_11_code
def yX3_isHurtBy : MethodName := ⟨RX3, "isHurtBy", "(II)Z"⟩
theorem dX3_isHurtBy_0 : decode cX3_isHurtBy 0 = .ok (.aload_n 0, 1) := by decide +kernel
theorem dX3_isHurtBy_1 : decode cX3_isHurtBy 1 = .ok (.getfield 3, 3) := by decide +kernel
theorem dX3_isHurtBy_4 : decode cX3_isHurtBy 4 = .ok (.getfield 48, 3) := by decide +kernel
theorem dX3_isHurtBy_7 : decode cX3_isHurtBy 7 = .ok (.getfield 58, 3) := by decide +kernel
theorem dX3_isHurtBy_10 : decode cX3_isHurtBy 10 = .ok (.aload_n 0, 1) := by decide +kernel
theorem dX3_isHurtBy_11 : decode cX3_isHurtBy 11 = .ok (.getfield 31, 3) := by decide +kernel
theorem dX3_isHurtBy_14 : decode cX3_isHurtBy 14 = .ok (.iload_n 1, 1) := by decide +kernel
theorem dX3_isHurtBy_15 : decode cX3_isHurtBy 15 = .ok (.iaload, 1) := by decide +kernel
theorem dX3_isHurtBy_16 : decode cX3_isHurtBy 16 = .ok (.iaload, 1) := by decide +kernel
theorem dX3_isHurtBy_17 : decode cX3_isHurtBy 17 = .ok (.iconst 1, 1) := by decide +kernel
theorem dX3_isHurtBy_18 : decode cX3_isHurtBy 18 = .ok (.iadd, 1) := by decide +kernel
theorem dX3_isHurtBy_19 : decode cX3_isHurtBy 19 = .ok (.istore_n 3, 1) := by decide +kernel
theorem dX3_isHurtBy_20 : decode cX3_isHurtBy 20 = .ok (.iload_n 3, 1) := by decide +kernel
theorem dX3_isHurtBy_21 : decode cX3_isHurtBy 21 = .ok (.aload_n 0, 1) := by decide +kernel
theorem dX3_isHurtBy_22 : decode cX3_isHurtBy 22 = .ok (.getfield 61, 3) := by decide +kernel
theorem dX3_isHurtBy_25 : decode cX3_isHurtBy 25 = .ok (.iconst 1, 1) := by decide +kernel
theorem dX3_isHurtBy_26 : decode cX3_isHurtBy 26 = .ok (.isub, 1) := by decide +kernel
theorem dX3_isHurtBy_27 : decode cX3_isHurtBy 27 = .ok (.if_icmp .ge 32, 3) := by decide +kernel
theorem dX3_isHurtBy_30 : decode cX3_isHurtBy 30 = .ok (.aload_n 0, 1) := by decide +kernel
theorem dX3_isHurtBy_31 : decode cX3_isHurtBy 31 = .ok (.getfield 15, 3) := by decide +kernel
theorem dX3_isHurtBy_34 : decode cX3_isHurtBy 34 = .ok (.iload_n 3, 1) := by decide +kernel
theorem dX3_isHurtBy_35 : decode cX3_isHurtBy 35 = .ok (.iaload, 1) := by decide +kernel
theorem dX3_isHurtBy_36 : decode cX3_isHurtBy 36 = .ok (.iconst 3, 1) := by decide +kernel
theorem dX3_isHurtBy_37 : decode cX3_isHurtBy 37 = .ok (.if_icmp .ne 22, 3) := by decide +kernel
theorem dX3_isHurtBy_40 : decode cX3_isHurtBy 40 = .ok (.aload_n 0, 1) := by decide +kernel
theorem dX3_isHurtBy_41 : decode cX3_isHurtBy 41 = .ok (.iload_n 3, 1) := by decide +kernel
theorem dX3_isHurtBy_42 : decode cX3_isHurtBy 42 = .ok (.aload_n 0, 1) := by decide +kernel
theorem dX3_isHurtBy_43 : decode cX3_isHurtBy 43 = .ok (.getfield 31, 3) := by decide +kernel
theorem dX3_isHurtBy_46 : decode cX3_isHurtBy 46 = .ok (.iload_n 1, 1) := by decide +kernel
theorem dX3_isHurtBy_47 : decode cX3_isHurtBy 47 = .ok (.iaload, 1) := by decide +kernel
theorem dX3_isHurtBy_48 : decode cX3_isHurtBy 48 = .ok (.iload_n 2, 1) := by decide +kernel
theorem dX3_isHurtBy_49 : decode cX3_isHurtBy 49 = .ok (.invokevirtual 68, 3) := by decide +kernel
theorem dX3_isHurtBy_52 : decode cX3_isHurtBy 52 = .ok (.ifCond .eq 7, 3) := by decide +kernel
theorem dX3_isHurtBy_55 : decode cX3_isHurtBy 55 = .ok (.iconst 1, 1) := by decide +kernel
theorem dX3_isHurtBy_56 : decode cX3_isHurtBy 56 = .ok (.goto 4, 3) := by decide +kernel
theorem dX3_isHurtBy_59 : decode cX3_isHurtBy 59 = .ok (.iconst 0, 1) := by decide +kernel
theorem dX3_isHurtBy_60 : decode cX3_isHurtBy 60 = .ok (.ireturn, 1) := by decide +kernel
abbrev cX3_lacks : ByteArray := prog_2_method_4_code
def yX3_lacks : MethodName := ⟨RX3, "lacks", "(I)I"⟩
theorem dX3_lacks_0 : decode cX3_lacks 0 = .ok (.iconst 0, 1) := by decide +kernel
theorem dX3_lacks_1 : decode cX3_lacks 1 = .ok (.istore_n 2, 1) := by decide +kernel
theorem dX3_lacks_2 : decode cX3_lacks 2 = .ok (.aload_n 0, 1) := by decide +kernel
theorem dX3_lacks_3 : decode cX3_lacks 3 = .ok (.getfield 3, 3) := by decide +kernel
theorem dX3_lacks_6 : decode cX3_lacks 6 = .ok (.getfield 48, 3) := by decide +kernel
theorem dX3_lacks_9 : decode cX3_lacks 9 = .ok (.getfield 58, 3) := by decide +kernel
theorem dX3_lacks_12 : decode cX3_lacks 12 = .ok (.iload_n 1, 1) := by decide +kernel
theorem dX3_lacks_13 : decode cX3_lacks 13 = .ok (.iaload, 1) := by decide +kernel
theorem dX3_lacks_14 : decode cX3_lacks 14 = .ok (.iconst 1, 1) := by decide +kernel
theorem dX3_lacks_15 : decode cX3_lacks 15 = .ok (.iadd, 1) := by decide +kernel
theorem dX3_lacks_16 : decode cX3_lacks 16 = .ok (.istore_n 3, 1) := by decide +kernel
theorem dX3_lacks_17 : decode cX3_lacks 17 = .ok (.iload_n 3, 1) := by decide +kernel
theorem dX3_lacks_18 : decode cX3_lacks 18 = .ok (.aload_n 0, 1) := by decide +kernel
theorem dX3_lacks_19 : decode cX3_lacks 19 = .ok (.getfield 61, 3) := by decide +kernel
theorem dX3_lacks_22 : decode cX3_lacks 22 = .ok (.if_icmp .ge 36, 3) := by decide +kernel
theorem dX3_lacks_25 : decode cX3_lacks 25 = .ok (.iload_n 2, 1) := by decide +kernel
theorem dX3_lacks_26 : decode cX3_lacks 26 = .ok (.aload_n 0, 1) := by decide +kernel
theorem dX3_lacks_27 : decode cX3_lacks 27 = .ok (.getfield 15, 3) := by decide +kernel
theorem dX3_lacks_30 : decode cX3_lacks 30 = .ok (.iload_n 3, 1) := by decide +kernel
theorem dX3_lacks_31 : decode cX3_lacks 31 = .ok (.iaload, 1) := by decide +kernel
theorem dX3_lacks_32 : decode cX3_lacks 32 = .ok (.ifCond .eq 13, 3) := by decide +kernel
theorem dX3_lacks_35 : decode cX3_lacks 35 = .ok (.aload_n 0, 1) := by decide +kernel
theorem dX3_lacks_36 : decode cX3_lacks 36 = .ok (.getfield 15, 3) := by decide +kernel
theorem dX3_lacks_39 : decode cX3_lacks 39 = .ok (.iload_n 3, 1) := by decide +kernel
theorem dX3_lacks_40 : decode cX3_lacks 40 = .ok (.iaload, 1) := by decide +kernel
theorem dX3_lacks_41 : decode cX3_lacks 41 = .ok (.iconst 1, 1) := by decide +kernel
theorem dX3_lacks_42 : decode cX3_lacks 42 = .ok (.if_icmp .ne 7, 3) := by decide +kernel
theorem dX3_lacks_45 : decode cX3_lacks 45 = .ok (.iconst 1, 1) := by decide +kernel
theorem dX3_lacks_46 : decode cX3_lacks 46 = .ok (.goto 4, 3) := by decide +kernel
theorem dX3_lacks_49 : decode cX3_lacks 49 = .ok (.iconst 0, 1) := by decide +kernel
theorem dX3_lacks_50 : decode cX3_lacks 50 = .ok (.iadd, 1) := by decide +kernel
theorem dX3_lacks_51 : decode cX3_lacks 51 = .ok (.istore_n 2, 1) := by decide +kernel
theorem dX3_lacks_52 : decode cX3_lacks 52 = .ok (.iinc 3 1, 3) := by decide +kernel
theorem dX3_lacks_55 : decode cX3_lacks 55 = .ok (.goto (-38), 3) := by decide +kernel
theorem dX3_lacks_58 : decode cX3_lacks 58 = .ok (.iload_n 2, 1) := by decide +kernel
theorem dX3_lacks_59 : decode cX3_lacks 59 = .ok (.ireturn, 1) := by decide +kernel
theorem q48 : (Jvm.Cond.initialized "EventHunter$Pattern") ∈ lw_all := lw_g (lw_at lw_m1 4 rfl) rfl
theorem q68 : (Jvm.Cond.fieldLinkNest "EventHunter$Pattern" (102 : Nat) "EventHunter$Web" "event" "[I" "EventHunter") ∈ lw_tbl := lw_at lw_m1 24 rfl
theorem q71 : (Jvm.Cond.fieldLinkNest "EventHunter$Pattern" (58 : Nat) "EventHunter$Web" "step" "[I" "EventHunter") ∈ lw_tbl := lw_at lw_m1 27 rfl
theorem q74 : (Jvm.Cond.fieldLinkNest "EventHunter$Pattern" (105 : Nat) "EventHunter$Web" "before" "[I" "EventHunter") ∈ lw_tbl := lw_at lw_m1 30 rfl
theorem q121 : (Jvm.Cond.instantiable "EventHunter$Pattern" (17 : Nat)) ∈ lw_all := lw_g (lw_at lw_m1 77 rfl) rfl
theorem q123 : (Jvm.Cond.instanceMethod ({ cls := "EventHunter$Pattern", name := "<init>", desc := "(LEventHunter;)V" } : Jvm.MethodName)) ∈ lw_all := lw_g (lw_at lw_m1 79 rfl) rfl
theorem q124 : (Jvm.Cond.code ({ cls := "EventHunter$Pattern", name := "<init>", desc := "(LEventHunter;)V" } : Jvm.MethodName) prog_2_method_1_code (2 : Nat) (Option.none : Option Jvm.ClassFile.FieldType)) ∈ lw_all := lw_g (lw_at lw_m1 80 rfl) rfl
theorem q125 : (Jvm.Cond.methodLink "EventHunter$Pattern" (9 : Nat) ({ cls := "java/lang/Object", name := "<init>", desc := "()V" } : Jvm.MethodName)) ∈ lw_all := lw_g (lw_at lw_m1 81 rfl) rfl
theorem q127 : (Jvm.Cond.fieldLink "EventHunter$Pattern" (117 : Nat) "EventHunter$Pattern" "within" "I") ∈ lw_all := lw_g (lw_at lw_m1 83 rfl) rfl
theorem q130 : (Jvm.Cond.fieldLink "EventHunter$Pattern" (155 : Nat) "EventHunter$Pattern" "way" "I") ∈ lw_all := lw_g (lw_at lw_m1 86 rfl) rfl
theorem q131 : (Jvm.Cond.fieldLink "EventHunter$Pattern" (65 : Nat) "EventHunter$Pattern" "key" "I") ∈ lw_all := lw_g (lw_at lw_m1 87 rfl) rfl
theorem q133 : (Jvm.Cond.fieldLink "EventHunter$Pattern" (61 : Nat) "EventHunter$Pattern" "steps" "I") ∈ lw_all := lw_g (lw_at lw_m1 89 rfl) rfl
theorem q136 : (Jvm.Cond.fieldLink "EventHunter$Pattern" (15 : Nat) "EventHunter$Pattern" "sort" "[I") ∈ lw_all := lw_g (lw_at lw_m1 92 rfl) rfl
theorem q139 : (Jvm.Cond.fieldLink "EventHunter$Pattern" (19 : Nat) "EventHunter$Pattern" "of" "[I") ∈ lw_all := lw_g (lw_at lw_m1 95 rfl) rfl
theorem q142 : (Jvm.Cond.fieldLink "EventHunter$Pattern" (22 : Nat) "EventHunter$Pattern" "test" "[I") ∈ lw_all := lw_g (lw_at lw_m1 98 rfl) rfl
theorem q145 : (Jvm.Cond.fieldLink "EventHunter$Pattern" (25 : Nat) "EventHunter$Pattern" "by" "[I") ∈ lw_all := lw_g (lw_at lw_m1 101 rfl) rfl
theorem q148 : (Jvm.Cond.fieldLink "EventHunter$Pattern" (28 : Nat) "EventHunter$Pattern" "with" "[I") ∈ lw_all := lw_g (lw_at lw_m1 104 rfl) rfl
theorem q152 : (Jvm.Cond.fieldLink "EventHunter$Pattern" (124 : Nat) "EventHunter$Pattern" "isSpent" "Z") ∈ lw_all := lw_g (lw_at lw_m1 108 rfl) rfl
theorem q156 : (Jvm.Cond.fieldLink "EventHunter$Pattern" (76 : Nat) "EventHunter$Pattern" "told" "I") ∈ lw_all := lw_g (lw_at lw_m1 112 rfl) rfl
theorem q158 : (Jvm.Cond.fieldLink "EventHunter$Pattern" (31 : Nat) "EventHunter$Pattern" "run" "[I") ∈ lw_all := lw_g (lw_at lw_m1 114 rfl) rfl
theorem q160 : (Jvm.Cond.fieldLink "EventHunter$Pattern" (34 : Nat) "EventHunter$Pattern" "hurt" "[Z") ∈ lw_all := lw_g (lw_at lw_m1 116 rfl) rfl
theorem q162 : (Jvm.Cond.fieldLink "EventHunter$Pattern" (108 : Nat) "EventHunter$Pattern" "runs" "I") ∈ lw_all := lw_g (lw_at lw_m1 118 rfl) rfl
theorem q164 : (Jvm.Cond.fieldLink "EventHunter$Pattern" (3 : Nat) "EventHunter$Pattern" "this$0" "LEventHunter;") ∈ lw_all := lw_g (lw_at lw_m1 120 rfl) rfl
theorem q165 : (Jvm.Cond.lays "EventHunter$Pattern" "EventHunter$Pattern" "within" "I") ∈ lw_all := lw_g (lw_at lw_m1 121 rfl) rfl
theorem q166 : (Jvm.Cond.soleField "EventHunter$Pattern" "within") ∈ lw_all := lw_g (lw_at lw_m1 122 rfl) rfl
theorem q167 : (Jvm.Cond.lays "EventHunter$Pattern" "EventHunter$Pattern" "way" "I") ∈ lw_all := lw_g (lw_at lw_m1 123 rfl) rfl
theorem q168 : (Jvm.Cond.soleField "EventHunter$Pattern" "way") ∈ lw_all := lw_g (lw_at lw_m1 124 rfl) rfl
theorem q169 : (Jvm.Cond.lays "EventHunter$Pattern" "EventHunter$Pattern" "key" "I") ∈ lw_all := lw_g (lw_at lw_m1 125 rfl) rfl
theorem q170 : (Jvm.Cond.soleField "EventHunter$Pattern" "key") ∈ lw_all := lw_g (lw_at lw_m1 126 rfl) rfl
theorem q171 : (Jvm.Cond.lays "EventHunter$Pattern" "EventHunter$Pattern" "steps" "I") ∈ lw_all := lw_g (lw_at lw_m1 127 rfl) rfl
theorem q172 : (Jvm.Cond.soleField "EventHunter$Pattern" "steps") ∈ lw_all := lw_g (lw_at lw_m1 128 rfl) rfl
theorem q173 : (Jvm.Cond.laysFinal "EventHunter$Pattern" "EventHunter$Pattern" "sort" "[I") ∈ lw_all := lw_g (lw_at lw_m1 129 rfl) rfl
theorem q174 : (Jvm.Cond.soleField "EventHunter$Pattern" "sort") ∈ lw_all := lw_g (lw_at lw_m1 130 rfl) rfl
theorem q175 : (Jvm.Cond.laysFinal "EventHunter$Pattern" "EventHunter$Pattern" "of" "[I") ∈ lw_all := lw_g (lw_at lw_m1 131 rfl) rfl
theorem q176 : (Jvm.Cond.soleField "EventHunter$Pattern" "of") ∈ lw_all := lw_g (lw_at lw_m1 132 rfl) rfl
theorem q177 : (Jvm.Cond.laysFinal "EventHunter$Pattern" "EventHunter$Pattern" "test" "[I") ∈ lw_all := lw_g (lw_at lw_m1 133 rfl) rfl
theorem q178 : (Jvm.Cond.soleField "EventHunter$Pattern" "test") ∈ lw_all := lw_g (lw_at lw_m1 134 rfl) rfl
theorem q179 : (Jvm.Cond.laysFinal "EventHunter$Pattern" "EventHunter$Pattern" "by" "[I") ∈ lw_all := lw_g (lw_at lw_m1 135 rfl) rfl
theorem q180 : (Jvm.Cond.soleField "EventHunter$Pattern" "by") ∈ lw_all := lw_g (lw_at lw_m1 136 rfl) rfl
theorem q181 : (Jvm.Cond.laysFinal "EventHunter$Pattern" "EventHunter$Pattern" "with" "[I") ∈ lw_all := lw_g (lw_at lw_m1 137 rfl) rfl
theorem q182 : (Jvm.Cond.soleField "EventHunter$Pattern" "with") ∈ lw_all := lw_g (lw_at lw_m1 138 rfl) rfl
theorem q183 : (Jvm.Cond.lays "EventHunter$Pattern" "EventHunter$Pattern" "isBegun" "Z") ∈ lw_all := lw_g (lw_at lw_m1 139 rfl) rfl
theorem q184 : (Jvm.Cond.soleField "EventHunter$Pattern" "isBegun") ∈ lw_all := lw_g (lw_at lw_m1 140 rfl) rfl
theorem q185 : (Jvm.Cond.lays "EventHunter$Pattern" "EventHunter$Pattern" "isSpent" "Z") ∈ lw_all := lw_g (lw_at lw_m1 141 rfl) rfl
theorem q186 : (Jvm.Cond.soleField "EventHunter$Pattern" "isSpent") ∈ lw_all := lw_g (lw_at lw_m1 142 rfl) rfl
theorem q187 : (Jvm.Cond.lays "EventHunter$Pattern" "EventHunter$Pattern" "since" "I") ∈ lw_all := lw_g (lw_at lw_m1 143 rfl) rfl
theorem q188 : (Jvm.Cond.soleField "EventHunter$Pattern" "since") ∈ lw_all := lw_g (lw_at lw_m1 144 rfl) rfl
theorem q189 : (Jvm.Cond.lays "EventHunter$Pattern" "EventHunter$Pattern" "told" "I") ∈ lw_all := lw_g (lw_at lw_m1 145 rfl) rfl
theorem q190 : (Jvm.Cond.soleField "EventHunter$Pattern" "told") ∈ lw_all := lw_g (lw_at lw_m1 146 rfl) rfl
theorem q191 : (Jvm.Cond.laysFinal "EventHunter$Pattern" "EventHunter$Pattern" "run" "[I") ∈ lw_all := lw_g (lw_at lw_m1 147 rfl) rfl
theorem q192 : (Jvm.Cond.soleField "EventHunter$Pattern" "run") ∈ lw_all := lw_g (lw_at lw_m1 148 rfl) rfl
theorem q193 : (Jvm.Cond.laysFinal "EventHunter$Pattern" "EventHunter$Pattern" "hurt" "[Z") ∈ lw_all := lw_g (lw_at lw_m1 149 rfl) rfl
theorem q194 : (Jvm.Cond.soleField "EventHunter$Pattern" "hurt") ∈ lw_all := lw_g (lw_at lw_m1 150 rfl) rfl
theorem q195 : (Jvm.Cond.lays "EventHunter$Pattern" "EventHunter$Pattern" "runs" "I") ∈ lw_all := lw_g (lw_at lw_m1 151 rfl) rfl
theorem q196 : (Jvm.Cond.soleField "EventHunter$Pattern" "runs") ∈ lw_all := lw_g (lw_at lw_m1 152 rfl) rfl
theorem q197 : (Jvm.Cond.laysFinal "EventHunter$Pattern" "EventHunter$Pattern" "this$0" "LEventHunter;") ∈ lw_all := lw_g (lw_at lw_m1 153 rfl) rfl
theorem q198 : (Jvm.Cond.soleField "EventHunter$Pattern" "this$0") ∈ lw_all := lw_g (lw_at lw_m1 154 rfl) rfl
theorem q199 : (Jvm.Cond.superclass "EventHunter$Pattern" "java/lang/Object") ∈ lw_all := lw_g (lw_at lw_m1 155 rfl) rfl
theorem q202 : (Jvm.Cond.fieldLinkNest "EventHunter$Pattern" (38 : Nat) "EventHunter" "kind" "[I" "EventHunter") ∈ lw_tbl := lw_at lw_m1 158 rfl
theorem q206 : (Jvm.Cond.fieldLinkNest "EventHunter$Pattern" (111 : Nat) "EventHunter" "minute" "[I" "EventHunter") ∈ lw_tbl := lw_at lw_m1 162 rfl
theorem q209 : (Jvm.Cond.fieldLinkNest "EventHunter$Pattern" (45 : Nat) "EventHunter" "field" "[I" "EventHunter") ∈ lw_tbl := lw_at lw_m1 165 rfl
theorem q218 : (Jvm.Cond.fieldLinkNest "EventHunter$Pattern" (48 : Nat) "EventHunter" "web" "LEventHunter$Web;" "EventHunter") ∈ lw_tbl := lw_at lw_m1 174 rfl
theorem q221 : (Jvm.Cond.fieldLinkNest "EventHunter$Pattern" (85 : Nat) "EventHunter" "matchPattern" "[I" "EventHunter") ∈ lw_tbl := lw_at lw_m1 177 rfl
theorem q223 : (Jvm.Cond.fieldLinkNest "EventHunter$Pattern" (91 : Nat) "EventHunter" "matchMany" "[I" "EventHunter") ∈ lw_tbl := lw_at lw_m1 179 rfl
theorem q225 : (Jvm.Cond.fieldLinkNest "EventHunter$Pattern" (94 : Nat) "EventHunter" "matchEvent" "[[S" "EventHunter") ∈ lw_tbl := lw_at lw_m1 181 rfl
theorem q227 : (Jvm.Cond.fieldLinkNest "EventHunter$Pattern" (98 : Nat) "EventHunter" "matchStep" "[[B" "EventHunter") ∈ lw_tbl := lw_at lw_m1 183 rfl
theorem q228 : (Jvm.Cond.fieldLinkNest "EventHunter$Pattern" (79 : Nat) "EventHunter" "matches" "I" "EventHunter") ∈ lw_tbl := lw_at lw_m1 184 rfl
theorem q230 : (Jvm.Cond.fieldLinkNest "EventHunter$Pattern" (88 : Nat) "EventHunter" "here" "I" "EventHunter") ∈ lw_tbl := lw_at lw_m1 186 rfl
theorem q327 : (Jvm.Cond.instanceMethod ({ cls := "EventHunter$Pattern", name := "come", desc := "(I)V" } : Jvm.MethodName)) ∈ lw_all := lw_g (lw_at lw_m2 43 rfl) rfl
theorem q328 : (Jvm.Cond.selects "EventHunter$Pattern" ({ cls := "EventHunter$Pattern", name := "come", desc := "(I)V" } : Jvm.MethodName) ({ cls := "EventHunter$Pattern", name := "come", desc := "(I)V" } : Jvm.MethodName)) ∈ lw_all := lw_g (lw_at lw_m2 44 rfl) rfl
theorem q329 : (Jvm.Cond.code ({ cls := "EventHunter$Pattern", name := "come", desc := "(I)V" } : Jvm.MethodName) prog_2_method_14_code (7 : Nat) (Option.none : Option Jvm.ClassFile.FieldType)) ∈ lw_all := lw_g (lw_at lw_m2 45 rfl) rfl
theorem q330 : (Jvm.Cond.methodLink "EventHunter$Pattern" (149 : Nat) ({ cls := "EventHunter$Pattern", name := "age", desc := "(I)V" } : Jvm.MethodName)) ∈ lw_all := lw_g (lw_at lw_m2 46 rfl) rfl
theorem q331 : (Jvm.Cond.privateMethod ({ cls := "EventHunter$Pattern", name := "age", desc := "(I)V" } : Jvm.MethodName)) ∈ lw_tbl := lw_at lw_m2 47 rfl
theorem q332 : (Jvm.Cond.instanceMethod ({ cls := "EventHunter$Pattern", name := "age", desc := "(I)V" } : Jvm.MethodName)) ∈ lw_all := lw_g (lw_at lw_m2 48 rfl) rfl
theorem q333 : (Jvm.Cond.code ({ cls := "EventHunter$Pattern", name := "age", desc := "(I)V" } : Jvm.MethodName) prog_2_method_8_code (4 : Nat) (Option.none : Option Jvm.ClassFile.FieldType)) ∈ lw_all := lw_g (lw_at lw_m2 49 rfl) rfl
theorem q334 : (Jvm.Cond.methodLink "EventHunter$Pattern" (114 : Nat) ({ cls := "EventHunter$Web", name := "first", desc := "(I)I" } : Jvm.MethodName)) ∈ lw_all := lw_g (lw_at lw_m2 50 rfl) rfl
theorem q338 : (Jvm.Cond.methodLink "EventHunter$Pattern" (120 : Nat) ({ cls := "EventHunter$Web", name := "leave", desc := "(I)V" } : Jvm.MethodName)) ∈ lw_all := lw_g (lw_at lw_m2 54 rfl) rfl
theorem q342 : (Jvm.Cond.methodLink "EventHunter$Pattern" (152 : Nat) ({ cls := "EventHunter$Pattern", name := "hasKey", desc := "(II)Z" } : Jvm.MethodName)) ∈ lw_all := lw_g (lw_at lw_m2 58 rfl) rfl
theorem q343 : (Jvm.Cond.instanceMethod ({ cls := "EventHunter$Pattern", name := "hasKey", desc := "(II)Z" } : Jvm.MethodName)) ∈ lw_all := lw_g (lw_at lw_m2 59 rfl) rfl
theorem q344 : (Jvm.Cond.selects "EventHunter$Pattern" ({ cls := "EventHunter$Pattern", name := "hasKey", desc := "(II)Z" } : Jvm.MethodName) ({ cls := "EventHunter$Pattern", name := "hasKey", desc := "(II)Z" } : Jvm.MethodName)) ∈ lw_all := lw_g (lw_at lw_m2 60 rfl) rfl
theorem q345 : (Jvm.Cond.code ({ cls := "EventHunter$Pattern", name := "hasKey", desc := "(II)Z" } : Jvm.MethodName) prog_2_method_5_code (3 : Nat) (Option.some Jvm.ClassFile.FieldType.boolean)) ∈ lw_all := lw_g (lw_at lw_m2 61 rfl) rfl
theorem q346 : (Jvm.Cond.methodLink "EventHunter$Pattern" (158 : Nat) ({ cls := "EventHunter$Pattern", name := "every", desc := "(II)V" } : Jvm.MethodName)) ∈ lw_all := lw_g (lw_at lw_m2 62 rfl) rfl
theorem q347 : (Jvm.Cond.privateMethod ({ cls := "EventHunter$Pattern", name := "every", desc := "(II)V" } : Jvm.MethodName)) ∈ lw_tbl := lw_at lw_m2 63 rfl
theorem q348 : (Jvm.Cond.instanceMethod ({ cls := "EventHunter$Pattern", name := "every", desc := "(II)V" } : Jvm.MethodName)) ∈ lw_all := lw_g (lw_at lw_m2 64 rfl) rfl
theorem q349 : (Jvm.Cond.code ({ cls := "EventHunter$Pattern", name := "every", desc := "(II)V" } : Jvm.MethodName) prog_2_method_12_code (5 : Nat) (Option.none : Option Jvm.ClassFile.FieldType)) ∈ lw_all := lw_g (lw_at lw_m2 65 rfl) rfl
theorem q350 : (Jvm.Cond.methodLink "EventHunter$Pattern" (138 : Nat) ({ cls := "EventHunter$Pattern", name := "move", desc := "(IZII)I" } : Jvm.MethodName)) ∈ lw_all := lw_g (lw_at lw_m2 66 rfl) rfl
theorem q351 : (Jvm.Cond.instanceMethod ({ cls := "EventHunter$Pattern", name := "move", desc := "(IZII)I" } : Jvm.MethodName)) ∈ lw_all := lw_g (lw_at lw_m2 67 rfl) rfl
theorem q352 : (Jvm.Cond.selects "EventHunter$Pattern" ({ cls := "EventHunter$Pattern", name := "move", desc := "(IZII)I" } : Jvm.MethodName) ({ cls := "EventHunter$Pattern", name := "move", desc := "(IZII)I" } : Jvm.MethodName)) ∈ lw_all := lw_g (lw_at lw_m2 68 rfl) rfl
theorem q353 : (Jvm.Cond.code ({ cls := "EventHunter$Pattern", name := "move", desc := "(IZII)I" } : Jvm.MethodName) prog_2_method_6_code (10 : Nat) (Option.some Jvm.ClassFile.FieldType.int)) ∈ lw_all := lw_g (lw_at lw_m2 69 rfl) rfl
theorem q354 : (Jvm.Cond.methodLink "EventHunter$Pattern" (68 : Nat) ({ cls := "EventHunter$Pattern", name := "fits", desc := "(III)Z" } : Jvm.MethodName)) ∈ lw_all := lw_g (lw_at lw_m2 70 rfl) rfl
theorem q355 : (Jvm.Cond.instanceMethod ({ cls := "EventHunter$Pattern", name := "fits", desc := "(III)Z" } : Jvm.MethodName)) ∈ lw_all := lw_g (lw_at lw_m2 71 rfl) rfl
theorem q356 : (Jvm.Cond.selects "EventHunter$Pattern" ({ cls := "EventHunter$Pattern", name := "fits", desc := "(III)Z" } : Jvm.MethodName) ({ cls := "EventHunter$Pattern", name := "fits", desc := "(III)Z" } : Jvm.MethodName)) ∈ lw_all := lw_g (lw_at lw_m2 72 rfl) rfl
theorem q357 : (Jvm.Cond.code ({ cls := "EventHunter$Pattern", name := "fits", desc := "(III)Z" } : Jvm.MethodName) prog_2_method_2_code (7 : Nat) (Option.some Jvm.ClassFile.FieldType.boolean)) ∈ lw_all := lw_g (lw_at lw_m2 73 rfl) rfl
theorem q358 : (Jvm.Cond.methodLinkNest "EventHunter$Pattern" (41 : Nat) ({ cls := "EventHunter", name := "isKind", desc := "(II)Z" } : Jvm.MethodName) "EventHunter") ∈ lw_tbl := lw_at lw_m2 74 rfl
theorem q362 : (Jvm.Cond.methodLink "EventHunter$Pattern" (52 : Nat) ({ cls := "EventHunter$Web", name := "last", desc := "(II)I" } : Jvm.MethodName)) ∈ lw_all := lw_g (lw_at lw_m2 78 rfl) rfl
theorem q366 : (Jvm.Cond.methodLink "EventHunter$Pattern" (72 : Nat) ({ cls := "EventHunter$Web", name := "count", desc := "(I)I" } : Jvm.MethodName)) ∈ lw_all := lw_g (lw_at lw_m2 82 rfl) rfl
theorem q370 : (Jvm.Cond.methodLink "EventHunter$Pattern" (142 : Nat) ({ cls := "EventHunter$Web", name := "take", desc := "(III)I" } : Jvm.MethodName)) ∈ lw_all := lw_g (lw_at lw_m2 86 rfl) rfl
theorem q374 : (Jvm.Cond.methodLink "EventHunter$Pattern" (146 : Nat) ({ cls := "EventHunter$Pattern", name := "add", desc := "(I)V" } : Jvm.MethodName)) ∈ lw_all := lw_g (lw_at lw_m2 90 rfl) rfl
theorem q375 : (Jvm.Cond.privateMethod ({ cls := "EventHunter$Pattern", name := "add", desc := "(I)V" } : Jvm.MethodName)) ∈ lw_tbl := lw_at lw_m2 91 rfl
theorem q376 : (Jvm.Cond.instanceMethod ({ cls := "EventHunter$Pattern", name := "add", desc := "(I)V" } : Jvm.MethodName)) ∈ lw_all := lw_g (lw_at lw_m2 92 rfl) rfl
theorem q377 : (Jvm.Cond.code ({ cls := "EventHunter$Pattern", name := "add", desc := "(I)V" } : Jvm.MethodName) prog_2_method_10_code (2 : Nat) (Option.none : Option Jvm.ClassFile.FieldType)) ∈ lw_all := lw_g (lw_at lw_m2 93 rfl) rfl
theorem q378 : (Jvm.Cond.methodLink "EventHunter$Pattern" (128 : Nat) ({ cls := "EventHunter$Pattern", name := "spend", desc := "()V" } : Jvm.MethodName)) ∈ lw_all := lw_g (lw_at lw_m2 94 rfl) rfl
theorem q379 : (Jvm.Cond.privateMethod ({ cls := "EventHunter$Pattern", name := "spend", desc := "()V" } : Jvm.MethodName)) ∈ lw_tbl := lw_at lw_m2 95 rfl
theorem q380 : (Jvm.Cond.instanceMethod ({ cls := "EventHunter$Pattern", name := "spend", desc := "()V" } : Jvm.MethodName)) ∈ lw_all := lw_g (lw_at lw_m2 96 rfl) rfl
theorem q381 : (Jvm.Cond.code ({ cls := "EventHunter$Pattern", name := "spend", desc := "()V" } : Jvm.MethodName) prog_2_method_9_code (2 : Nat) (Option.none : Option Jvm.ClassFile.FieldType)) ∈ lw_all := lw_g (lw_at lw_m2 97 rfl) rfl
theorem q382 : (Jvm.Cond.methodLink "EventHunter$Pattern" (131 : Nat) ({ cls := "EventHunter$Pattern", name := "isWhole", desc := "(I)Z" } : Jvm.MethodName)) ∈ lw_all := lw_g (lw_at lw_m2 98 rfl) rfl
theorem q383 : (Jvm.Cond.instanceMethod ({ cls := "EventHunter$Pattern", name := "isWhole", desc := "(I)Z" } : Jvm.MethodName)) ∈ lw_all := lw_g (lw_at lw_m2 99 rfl) rfl
theorem q384 : (Jvm.Cond.selects "EventHunter$Pattern" ({ cls := "EventHunter$Pattern", name := "isWhole", desc := "(I)Z" } : Jvm.MethodName) ({ cls := "EventHunter$Pattern", name := "isWhole", desc := "(I)Z" } : Jvm.MethodName)) ∈ lw_all := lw_g (lw_at lw_m2 100 rfl) rfl
theorem q385 : (Jvm.Cond.code ({ cls := "EventHunter$Pattern", name := "isWhole", desc := "(I)Z" } : Jvm.MethodName) prog_2_method_3_code (4 : Nat) (Option.some Jvm.ClassFile.FieldType.boolean)) ∈ lw_all := lw_g (lw_at lw_m2 101 rfl) rfl
theorem q386 : (Jvm.Cond.methodLink "EventHunter$Pattern" (135 : Nat) ({ cls := "EventHunter$Pattern", name := "tell", desc := "(I)V" } : Jvm.MethodName)) ∈ lw_all := lw_g (lw_at lw_m2 102 rfl) rfl
theorem q387 : (Jvm.Cond.privateMethod ({ cls := "EventHunter$Pattern", name := "tell", desc := "(I)V" } : Jvm.MethodName)) ∈ lw_tbl := lw_at lw_m2 103 rfl
theorem q388 : (Jvm.Cond.instanceMethod ({ cls := "EventHunter$Pattern", name := "tell", desc := "(I)V" } : Jvm.MethodName)) ∈ lw_all := lw_g (lw_at lw_m2 104 rfl) rfl
theorem q389 : (Jvm.Cond.code ({ cls := "EventHunter$Pattern", name := "tell", desc := "(I)V" } : Jvm.MethodName) prog_2_method_7_code (5 : Nat) (Option.none : Option Jvm.ClassFile.FieldType)) ∈ lw_all := lw_g (lw_at lw_m2 105 rfl) rfl
theorem q390 : (Jvm.Cond.methodLink "EventHunter$Pattern" (82 : Nat) ({ cls := "EventHunter$Web", name := "length", desc := "(I)I" } : Jvm.MethodName)) ∈ lw_all := lw_g (lw_at lw_m2 106 rfl) rfl
theorem q394 : (Jvm.Cond.methodLink "EventHunter$Pattern" (162 : Nat) ({ cls := "EventHunter$Pattern", name := "next", desc := "(II)Z" } : Jvm.MethodName)) ∈ lw_all := lw_g (lw_at lw_m2 110 rfl) rfl
theorem q395 : (Jvm.Cond.privateMethod ({ cls := "EventHunter$Pattern", name := "next", desc := "(II)Z" } : Jvm.MethodName)) ∈ lw_tbl := lw_at lw_m2 111 rfl
theorem q396 : (Jvm.Cond.instanceMethod ({ cls := "EventHunter$Pattern", name := "next", desc := "(II)Z" } : Jvm.MethodName)) ∈ lw_all := lw_g (lw_at lw_m2 112 rfl) rfl
theorem q397 : (Jvm.Cond.code ({ cls := "EventHunter$Pattern", name := "next", desc := "(II)Z" } : Jvm.MethodName) prog_2_method_13_code (5 : Nat) (Option.some Jvm.ClassFile.FieldType.boolean)) ∈ lw_all := lw_g (lw_at lw_m2 113 rfl) rfl
theorem q398 : (Jvm.Cond.methodLink "EventHunter$Pattern" (165 : Nat) ({ cls := "EventHunter$Pattern", name := "isHurtBy", desc := "(II)Z" } : Jvm.MethodName)) ∈ lw_all := lw_g (lw_at lw_m2 114 rfl) rfl
theorem q399 : (Jvm.Cond.privateMethod ({ cls := "EventHunter$Pattern", name := "isHurtBy", desc := "(II)Z" } : Jvm.MethodName)) ∈ lw_tbl := lw_at lw_m2 115 rfl
theorem q400 : (Jvm.Cond.instanceMethod ({ cls := "EventHunter$Pattern", name := "isHurtBy", desc := "(II)Z" } : Jvm.MethodName)) ∈ lw_all := lw_g (lw_at lw_m2 116 rfl) rfl
theorem q401 : (Jvm.Cond.code ({ cls := "EventHunter$Pattern", name := "isHurtBy", desc := "(II)Z" } : Jvm.MethodName) prog_2_method_11_code (4 : Nat) (Option.some Jvm.ClassFile.FieldType.boolean)) ∈ lw_all := lw_g (lw_at lw_m2 117 rfl) rfl
theorem q454 : (Jvm.Cond.instanceMethod ({ cls := "EventHunter$Pattern", name := "lacks", desc := "(I)I" } : Jvm.MethodName)) ∈ lw_all := lw_g (lw_at lw_m2 170 rfl) rfl
theorem q455 : (Jvm.Cond.selects "EventHunter$Pattern" ({ cls := "EventHunter$Pattern", name := "lacks", desc := "(I)I" } : Jvm.MethodName) ({ cls := "EventHunter$Pattern", name := "lacks", desc := "(I)I" } : Jvm.MethodName)) ∈ lw_all := lw_g (lw_at lw_m2 171 rfl) rfl
theorem q456 : (Jvm.Cond.code ({ cls := "EventHunter$Pattern", name := "lacks", desc := "(I)I" } : Jvm.MethodName) prog_2_method_4_code (4 : Nat) (Option.some Jvm.ClassFile.FieldType.int)) ∈ lw_all := lw_g (lw_at lw_m2 172 rfl) rfl
theorem in_X3 : ∀ w ∈ wsX30, w ∈ lw_all := lw_in wsX30 [165, 167, 169, 171, 173, 175, 177, 179, 181, 183, 185, 187, 189, 191, 193, 195, 197] (by decide +kernel) (by decide +kernel)
